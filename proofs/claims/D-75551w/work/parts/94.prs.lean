/-! READING TEXTS: small steps over (token, error, where) -/
abbrev zp_P : Type := zp_T × Nat × Nat
def zp_flaw (S : zp_P) (c : Nat) : zp_P := if S.2.1 = 0 then (S.1, c, S.1.2.1) else S
def zp_chk (S : zp_P) (ok : Prop) [Decidable ok] (c : Nat) : zp_P := if ok then S else zp_flaw S c
def zp_adv (b : Nat → Nat) (L : Nat) (S : zp_P) : zp_P := if S.2.1 = 0 then (zp_tok b L S.1.2.2, 0, S.2.2) else S
def zp_isw (b : Nat → Nat) (S : zp_P) (w : List Nat) : Bool := decide (S.2.1 = 0 ∧ S.1.1 = 1 ∧ w.length = S.1.2.2 - S.1.2.1) && (List.range w.length).all (fun k => w[k]! == b (S.1.2.1 + k))
def zp_iss (b : Nat → Nat) (S : zp_P) (c : Nat) : Bool := decide (S.2.1 = 0 ∧ S.1.1 = 3 ∧ b S.1.2.1 = c)
def zp_vf (b : Nat → Nat) (p : Nat) : Nat → Nat
  | 0 => 0
  | q + 1 => min 2000000000 (10 * zp_vf b p q + b (p + q) - 48)
def zp_val (b : Nat → Nat) (T : zp_T) : Nat := if T.1 = 2 then zp_vf b T.2.1 (T.2.2 - T.2.1) else 0
theorem zp_vf_le (b : Nat → Nat) (p : Nat) : ∀ q, zp_vf b p q ≤ 2000000000
  | 0 => Nat.zero_le _
  | _ + 1 => Nat.min_le_left _ _
theorem zp_val_le (b : Nat → Nat) (T : zp_T) : zp_val b T ≤ 2000000000 := by
  unfold zp_val
  split
  · exact zp_vf_le b _ _
  · exact Nat.zero_le _
theorem zp_isw_iff {b : Nat → Nat} {S : zp_P} {w : List Nat} : zp_isw b S w = true ↔ (S.2.1 = 0 ∧ S.1.1 = 1 ∧ w.length = S.1.2.2 - S.1.2.1) ∧ ∀ k, k < w.length → w[k]! = b (S.1.2.1 + k) := by
  unfold zp_isw
  rw [Bool.and_eq_true, decide_eq_true_iff, List.all_eq_true]
  refine and_congr Iff.rfl ⟨fun h k hk => eq_of_beq (h k (List.mem_range.mpr hk)), fun h k hk => beq_iff_eq.mpr (h k (List.mem_range.mp hk))⟩
/-- the reference reads at S -/
def zt_ps (b : Nat → Nat) (L : Nat) (S : zp_P) (M : zt_M) : Prop := zt_tx b L M ∧ zp_ok b L S.1 ∧ zt_tk S.1 M ∧ S.2.1 ≤ 9 ∧ M.1 33 = nI S.2.1 ∧ (S.2.1 ≠ 0 → M.1 34 = nI S.2.2)
/-- what the small steps change -/
def zt_pr (M M' : zt_M) : Prop := (∀ k, k < 30 ∨ 34 < k → M'.1 k = M.1 k) ∧ M'.2 = M.2
section ZPS
variable {G : zPg} {n : Nat} {σ : zS} {m : Nat} {N : Nat → Option Nat} {M M' M'' M0 : zt_M} {Q : zQ} {Y : zY} {V : zs_V} {b : Nat → Nat} {L : Nat} {S : zp_P}
theorem zt_pr.rfl' : zt_pr M M := ⟨fun _ _ => rfl, rfl⟩
theorem zt_pr.trans (h : zt_pr M M') (h' : zt_pr M' M'') : zt_pr M M'' := ⟨fun k a => (h'.1 k a).trans (h.1 k a), h'.2.trans h.2⟩
theorem zt_pr.sk (h : zt_sk M M') : zt_pr M M' := ⟨fun k a => h.1 k (by omega) (by omega) (by omega), h.2⟩
theorem zt_ps.e0 (hs : zt_ps b L S M) : M.1 33 = 0 ↔ S.2.1 = 0 := by
  rw [hs.2.2.2.2.1]
  show nI _ = nI 0 ↔ _
  have := hs.2.2.2.1
  rw [nI_eq (by omega) (by omega)]
theorem zt_ps.t (hs : zt_ps b L S M) (k : Nat) (hk : k ≤ 9) : M.1 32 = nI k ↔ S.1.1 = k := by
  rw [hs.2.2.1.1]
  have := hs.2.1.1
  rw [nI_eq (by omega) (by omega)]
theorem zt_ps.of_sk (hs : zt_ps b L S M) (h' : zt_sk M M') {T : zp_T} (hT : zp_ok b L T) (hk : zt_tk T M') : zt_ps b L (T, S.2) M' := ⟨hs.1.sk h', hT, hk, hs.2.2.2.1, (h'.1 33 (by omega) (by omega) (by omega)).trans hs.2.2.2.2.1, fun g => (h'.1 34 (by omega) (by omega) (by omega)).trans (hs.2.2.2.2.2 g)⟩
/-- the state of reading lives in few fields -/
theorem zt_ps.fr (hs : zt_ps b L S M) (h1 : ∀ k, 29 ≤ k → k ≤ 34 → M'.1 k = M.1 k) (h2 : M'.2.2.1 18 = M.2.2.1 18) : zt_ps b L S M' := by
  obtain ⟨⟨a1, a2, a3⟩, a4, ⟨a5, a6, a7⟩, a8, a9, a10⟩ := hs
  refine ⟨⟨a1, ?_, ?_⟩, a4, ⟨?_, ?_, ?_⟩, a8, ?_, fun g => ?_⟩
  · rw [h1 29 (by omega) (by omega)]; exact a2
  · rw [h2]; exact a3
  · rw [h1 32 (by omega) (by omega)]; exact a5
  · rw [h1 31 (by omega) (by omega)]; exact a6
  · rw [h1 30 (by omega) (by omega)]; exact a7
  · rw [h1 33 (by omega) (by omega)]; exact a9
  · rw [h1 34 (by omega) (by omega)]; exact a10 g
theorem zt_274 (hm : G.1 ≤ m) (hs : zt_ps b L S M) {c : Nat} (hc : 1 ≤ c ∧ c ≤ 9) (h : ∀ M', zt_pr M M' → zt_ps b L (zp_flaw S c) M' → Q none (zt_S σ m N M')) : zCall G (n + 1) 274 [.ref m, .int (nI c)] Q Y (zt_S σ m N M) := by
  refine ze274 ⟨_, _, rfl, ?_⟩
  simp only [↓zt_rc, ↓zt_g0, ↓zt_g1, ↓zt_g2, ↓zt_g3, ↓zt_g4, ↓zt_g5, ↓zt_g6, ↓zt_g7, ↓zt_g8, ↓zt_g9, ↓zt_g10, ↓zt_g11, ↓zt_g12, ↓zt_g13, ↓zt_g14, ↓zt_g15, ↓zt_g16, ↓zt_g17, ↓zt_g18, ↓zt_g19, ↓zt_g20, ↓zt_g21, ↓zt_g22, ↓zt_g23, ↓zt_g24, ↓zt_g25, ↓zt_g26, ↓zt_g27, ↓zt_g28, ↓zt_g29, ↓zt_g30, ↓zt_g31, ↓zt_g32, ↓zt_g33, ↓zt_g34, ↓zt_g35, ↓zt_g36, ↓zt_g37, ↓zt_g38, ↓zt_g39, ↓zt_g40, ↓zt_p4 hm, ↓zt_p5 hm, ↓zt_p6 hm, ↓zt_p15 hm, ↓zt_p21 hm, ↓zt_p22 hm, ↓zt_p23 hm, ↓zt_p26 hm, ↓zt_p28 hm, ↓zt_p29 hm, ↓zt_p30 hm, ↓zt_p31 hm, ↓zt_p32 hm, ↓zt_p33 hm, ↓zt_p34 hm, ↓zt_p35 hm, ↓zt_p36 hm, ↓zt_p40 hm, ↓zt_p19 hm, ↓zt_p20 hm, ↓zt_a1, ↓zt_a2, ↓zt_a3, ↓zt_a4, ↓zt_a5, ↓zt_a6, ↓zt_a7, ↓zt_a8, ↓zt_a9, ↓zt_a10, ↓zt_a11, ↓zt_a12, ↓zt_a13, ↓zt_a14, ↓zt_a15, ↓zt_a16, ↓zt_a17, ↓zt_a18, ↓zt_a19, ↓zt_a20, ↓zt_a21, ↓zt_s1 hm, ↓zt_s2 hm, ↓zt_s3 hm, ↓zt_s4 hm, ↓zt_s5 hm, ↓zt_s6 hm, ↓zt_s7 hm, ↓zt_s8 hm, ↓zt_s9 hm, ↓zt_s10 hm, ↓zt_s11 hm, ↓zt_s12 hm, ↓zt_s16 hm, ↓zt_s17 hm, ↓zt_s18 hm, ↓zt_s20 hm, ↓zt_s13 hm, ↓zt_s14 hm, ↓zt_s15 hm, ↓zt_s21 hm, ↓zt_l19, ↓zt_l17, forall_eq, ↓zqI_r, ↓zqL_r, ↓zqD_r, ↓zqF_r, ↓zqV_r, ↓zqR_r, ↓zqR_s, zboolb, zbool0, zbool1, true_and, and_true, zJ, hs.e0]
  refine ⟨fun hn => h M zt_pr.rfl' ?_, fun he => ?_⟩
  · unfold zp_flaw
    rw [if_neg hn]
    exact hs
  · refine h _ ⟨fun k hk => ?_, rfl⟩ ?_
    · show va_up (va_up M.1 33 (nI c)) 34 (va_up M.1 33 (nI c) 31) k = _
      rw [va_up_ne _ _ (by omega), va_up_ne _ _ (by omega)]
    · unfold zp_flaw
      rw [if_pos he]
      obtain ⟨⟨a1, a2, a3⟩, a4, ⟨a5, a6, a7⟩, a8, a9, a10⟩ := hs
      exact ⟨⟨a1, a2, a3⟩, a4, ⟨a5, a6, a7⟩, hc.2, rfl, fun _ => a6⟩
theorem zt_273 (hm : G.1 ≤ m) (hs : zt_ps b L S M) {ok : Prop} [Decidable ok] {c : Nat} (hc : 1 ≤ c ∧ c ≤ 9) (h : ∀ M', zt_pr M M' → zt_ps b L (zp_chk S ok c) M' → Q none (zt_S σ m N M')) : zCall G (n + 2) 273 [.ref m, .int (zs_b ok), .int (nI c)] Q Y (zt_S σ m N M) := by
  refine ze273 ⟨_, _, _, rfl, ?_⟩
  simp only [↓zt_rc, ↓zt_g0, ↓zt_g1, ↓zt_g2, ↓zt_g3, ↓zt_g4, ↓zt_g5, ↓zt_g6, ↓zt_g7, ↓zt_g8, ↓zt_g9, ↓zt_g10, ↓zt_g11, ↓zt_g12, ↓zt_g13, ↓zt_g14, ↓zt_g15, ↓zt_g16, ↓zt_g17, ↓zt_g18, ↓zt_g19, ↓zt_g20, ↓zt_g21, ↓zt_g22, ↓zt_g23, ↓zt_g24, ↓zt_g25, ↓zt_g26, ↓zt_g27, ↓zt_g28, ↓zt_g29, ↓zt_g30, ↓zt_g31, ↓zt_g32, ↓zt_g33, ↓zt_g34, ↓zt_g35, ↓zt_g36, ↓zt_g37, ↓zt_g38, ↓zt_g39, ↓zt_g40, ↓zt_p4 hm, ↓zt_p5 hm, ↓zt_p6 hm, ↓zt_p15 hm, ↓zt_p21 hm, ↓zt_p22 hm, ↓zt_p23 hm, ↓zt_p26 hm, ↓zt_p28 hm, ↓zt_p29 hm, ↓zt_p30 hm, ↓zt_p31 hm, ↓zt_p32 hm, ↓zt_p33 hm, ↓zt_p34 hm, ↓zt_p35 hm, ↓zt_p36 hm, ↓zt_p40 hm, ↓zt_p19 hm, ↓zt_p20 hm, ↓zt_a1, ↓zt_a2, ↓zt_a3, ↓zt_a4, ↓zt_a5, ↓zt_a6, ↓zt_a7, ↓zt_a8, ↓zt_a9, ↓zt_a10, ↓zt_a11, ↓zt_a12, ↓zt_a13, ↓zt_a14, ↓zt_a15, ↓zt_a16, ↓zt_a17, ↓zt_a18, ↓zt_a19, ↓zt_a20, ↓zt_a21, ↓zt_s1 hm, ↓zt_s2 hm, ↓zt_s3 hm, ↓zt_s4 hm, ↓zt_s5 hm, ↓zt_s6 hm, ↓zt_s7 hm, ↓zt_s8 hm, ↓zt_s9 hm, ↓zt_s10 hm, ↓zt_s11 hm, ↓zt_s12 hm, ↓zt_s16 hm, ↓zt_s17 hm, ↓zt_s18 hm, ↓zt_s20 hm, ↓zt_s13 hm, ↓zt_s14 hm, ↓zt_s15 hm, ↓zt_s21 hm, ↓zt_l19, ↓zt_l17, forall_eq, ↓zqI_r, ↓zqL_r, ↓zqD_r, ↓zqF_r, ↓zqV_r, ↓zqR_r, ↓zqR_s, zboolb, zbool0, zbool1, true_and, and_true, zJ, zs_b0, Classical.not_not]
  refine ⟨fun ho => h M zt_pr.rfl' ?_, fun hn => zt_274 hm hs hc fun M' k1 k2 => zqV_r.mpr (h M' k1 ?_)⟩
  · unfold zp_chk
    rw [if_pos ho]
    exact hs
  · unfold zp_chk
    rw [if_neg hn]
    exact k2
theorem zt_275 (hm : G.1 ≤ m) (hs : zt_ps b L S M) (h : ∀ M', zt_pr M M' → zt_ps b L (zp_adv b L S) M' → Q none (zt_S σ m N M')) : zCall G (n + 4) 275 [.ref m] Q Y (zt_S σ m N M) := by
  refine ze275 ⟨_, rfl, ?_⟩
  simp only [↓zt_rc, ↓zt_g0, ↓zt_g1, ↓zt_g2, ↓zt_g3, ↓zt_g4, ↓zt_g5, ↓zt_g6, ↓zt_g7, ↓zt_g8, ↓zt_g9, ↓zt_g10, ↓zt_g11, ↓zt_g12, ↓zt_g13, ↓zt_g14, ↓zt_g15, ↓zt_g16, ↓zt_g17, ↓zt_g18, ↓zt_g19, ↓zt_g20, ↓zt_g21, ↓zt_g22, ↓zt_g23, ↓zt_g24, ↓zt_g25, ↓zt_g26, ↓zt_g27, ↓zt_g28, ↓zt_g29, ↓zt_g30, ↓zt_g31, ↓zt_g32, ↓zt_g33, ↓zt_g34, ↓zt_g35, ↓zt_g36, ↓zt_g37, ↓zt_g38, ↓zt_g39, ↓zt_g40, ↓zt_p4 hm, ↓zt_p5 hm, ↓zt_p6 hm, ↓zt_p15 hm, ↓zt_p21 hm, ↓zt_p22 hm, ↓zt_p23 hm, ↓zt_p26 hm, ↓zt_p28 hm, ↓zt_p29 hm, ↓zt_p30 hm, ↓zt_p31 hm, ↓zt_p32 hm, ↓zt_p33 hm, ↓zt_p34 hm, ↓zt_p35 hm, ↓zt_p36 hm, ↓zt_p40 hm, ↓zt_p19 hm, ↓zt_p20 hm, ↓zt_a1, ↓zt_a2, ↓zt_a3, ↓zt_a4, ↓zt_a5, ↓zt_a6, ↓zt_a7, ↓zt_a8, ↓zt_a9, ↓zt_a10, ↓zt_a11, ↓zt_a12, ↓zt_a13, ↓zt_a14, ↓zt_a15, ↓zt_a16, ↓zt_a17, ↓zt_a18, ↓zt_a19, ↓zt_a20, ↓zt_a21, ↓zt_s1 hm, ↓zt_s2 hm, ↓zt_s3 hm, ↓zt_s4 hm, ↓zt_s5 hm, ↓zt_s6 hm, ↓zt_s7 hm, ↓zt_s8 hm, ↓zt_s9 hm, ↓zt_s10 hm, ↓zt_s11 hm, ↓zt_s12 hm, ↓zt_s16 hm, ↓zt_s17 hm, ↓zt_s18 hm, ↓zt_s20 hm, ↓zt_s13 hm, ↓zt_s14 hm, ↓zt_s15 hm, ↓zt_s21 hm, ↓zt_l19, ↓zt_l17, forall_eq, ↓zqI_r, ↓zqL_r, ↓zqD_r, ↓zqF_r, ↓zqV_r, ↓zqR_r, ↓zqR_s, zboolb, zbool0, zbool1, true_and, and_true, zJ, hs.e0]
  refine ⟨fun hn => h M zt_pr.rfl' ?_, fun he => zt_266 hm hs.1 hs.2.2.1.2.2 hs.2.1.2.2.1 fun M' k1 k2 => zqV_r.mpr (h M' (zt_pr.sk k1) ?_)⟩
  · unfold zp_adv
    rw [if_neg hn]
    exact hs
  · unfold zp_adv
    rw [if_pos he]
    have := hs.of_sk k1 (zp_tok_ok hs.1.1 hs.2.1.2.2.1) k2
    have e : S.2 = (0, S.2.2) := Prod.ext he rfl
    rw [e] at this
    exact this
theorem zt_280 (hs : zt_ps b L S M) {c : Nat} (hc : c < 256) (h : Q (some (.int (zs_b (zp_iss b S c = true)))) (zt_S σ m N M)) : zCall G (n + 1) 280 [.ref m, .int (nI c)] Q Y (zt_S σ m N M) := by
  refine ze280 ⟨_, _, rfl, ?_⟩
  have t3 : M.1 32 = 3 ↔ S.1.1 = 3 := hs.t 3 (by omega)
  simp only [↓zt_rc, ↓zt_g0, ↓zt_g1, ↓zt_g2, ↓zt_g3, ↓zt_g4, ↓zt_g5, ↓zt_g6, ↓zt_g7, ↓zt_g8, ↓zt_g9, ↓zt_g10, ↓zt_g11, ↓zt_g12, ↓zt_g13, ↓zt_g14, ↓zt_g15, ↓zt_g16, ↓zt_g17, ↓zt_g18, ↓zt_g19, ↓zt_g20, ↓zt_g21, ↓zt_g22, ↓zt_g23, ↓zt_g24, ↓zt_g25, ↓zt_g26, ↓zt_g27, ↓zt_g28, ↓zt_g29, ↓zt_g30, ↓zt_g31, ↓zt_g32, ↓zt_g33, ↓zt_g34, ↓zt_g35, ↓zt_g36, ↓zt_g37, ↓zt_g38, ↓zt_g39, ↓zt_g40, ↓zt_a1, ↓zt_a2, ↓zt_a3, ↓zt_a4, ↓zt_a5, ↓zt_a6, ↓zt_a7, ↓zt_a8, ↓zt_a9, ↓zt_a10, ↓zt_a11, ↓zt_a12, ↓zt_a13, ↓zt_a14, ↓zt_a15, ↓zt_a16, ↓zt_a17, ↓zt_a18, ↓zt_a19, ↓zt_a20, ↓zt_a21, ↓zt_l19, ↓zt_l17, forall_eq, ↓zqI_r, ↓zqL_r, ↓zqD_r, ↓zqF_r, ↓zqV_r, ↓zqR_r, ↓zqR_s, zboolb, zbool0, zbool1, true_and, and_true, zJ, hs.e0, t3]
  have hf : ¬ (S.2.1 = 0 ∧ S.1.1 = 3 ∧ b S.1.2.1 = c) → Q (some (.int 0)) (zt_S σ m N M) := by
    intro hn
    rw [zs_bf (c := zp_iss b S c = true) (fun h9 => hn (of_decide_eq_true h9))] at h
    exact h
  refine ⟨fun hn => hf fun h9 => hn h9.1, fun he => ⟨fun hn => hf fun h9 => hn h9.2.1, fun h3 => ?_⟩⟩
  have hb : S.1.2.1 < L := Nat.lt_of_lt_of_le (hs.2.1.2.2.2.1 (by omega)) hs.2.1.2.2.1
  have hL := hs.1.1
  rw [hs.2.2.1.2.1]
  refine ⟨nI_i (by omega) (by omega), ?_⟩
  rw [nI_cl (by omega), (hs.1.2.2 _ hb).1, nI_eq (by have := (hs.1.2.2 _ hb).2; omega) (by omega)]
  refine ⟨fun hn => hf fun h9 => hn h9.2.2, fun hy => ?_⟩
  rw [zs_bt (c := zp_iss b S c = true) (decide_eq_true ⟨he, h3, hy⟩)] at h
  exact h
end ZPS
