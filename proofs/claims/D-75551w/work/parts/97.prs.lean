/-! READING TEXTS: items and listed sets are read into a draft -/
abbrev zp_X : Type := zp_P × zs_V
def zp_rd (b : Nat → Nat) (L : Nat) (X : zp_X) (i lo hi : Nat) : zp_X := (zp_nS b L X.1 lo hi, va_up X.2 i (nI (zp_nv b L X.1 lo hi)))
def zp_fd (b : Nat → Nat) (L p : Nat) (X : zp_X) : Nat → zp_X
  | 0 => zp_rd b L X p 1 50
  | k + 1 => zp_rd b L (zp_fd b L p X k) (p + (k + 1)) 0 99
def zp_i1 (b : Nat → Nat) (L : Nat) (X : zp_X) : zp_P := zp_adv b L (zp_chk X.1 (zs_n X.2 < 10) 3)
def zp_i2 (b : Nat → Nat) (L : Nat) (X : zp_X) : zp_X := zp_fd b L (11 + 4 * zs_n X.2) (zp_i1 b L X, X.2) 3
def zp_item (b : Nat → Nat) (L : Nat) (X : zp_X) : zp_X := if (zp_i1 b L X).2.1 = 0 then (zp_xs b L (zp_i2 b L X).1 59, va_up (zp_i2 b L X).2 0 (nI (zs_n X.2 + 1))) else (zp_i1 b L X, X.2)
theorem zp_adv_e (b : Nat → Nat) (L : Nat) (S : zp_P) : (zp_adv b L S).2.1 = S.2.1 := by
  unfold zp_adv
  split
  · rename_i h
    exact h.symm
  · rfl
theorem zp_chk_e {S : zp_P} {ok : Prop} [Decidable ok] {c : Nat} (hc : c ≠ 0) (h : (zp_chk S ok c).2.1 = 0) : ok ∧ S.2.1 = 0 ∧ zp_chk S ok c = S := by
  unfold zp_chk at *
  by_cases ho : ok
  · rw [if_pos ho] at *
    exact ⟨ho, h, rfl⟩
  · rw [if_neg ho] at h
    unfold zp_flaw at h
    by_cases he : S.2.1 = 0
    · rw [if_pos he] at h
      exact absurd h hc
    · rw [if_neg he] at h
      exact absurd h he
/-- what reading changes -/
def zt_pw (M M' : zt_M) : Prop := (∀ k, k < 30 ∨ 34 < k → M'.1 k = M.1 k) ∧ M'.2.1 = M.2.1 ∧ (∀ j, j ≠ 2 → M'.2.2.1 j = M.2.2.1 j) ∧ M'.2.2.2 = M.2.2.2
section ZPD
variable {G : zPg} {n : Nat} {σ : zS} {m : Nat} {N : Nat → Option Nat} {M M' M'' M0 : zt_M} {Q : zQ} {Y : zY} {V D : zs_V} {b : Nat → Nat} {L : Nat} {S : zp_P} {X : zp_X}
theorem zt_pw.rfl' : zt_pw M M := ⟨fun _ _ => rfl, rfl, fun _ _ => rfl, rfl⟩
theorem zt_pw.trans (h : zt_pw M M') (h' : zt_pw M' M'') : zt_pw M M'' := ⟨fun k a => (h'.1 k a).trans (h.1 k a), h'.2.1.trans h.2.1, fun j a => (h'.2.2.1 j a).trans (h.2.2.1 j a), h'.2.2.2.trans h.2.2.2⟩
theorem zt_pw.pr (h : zt_pr M M') : zt_pw M M' := ⟨h.1, by rw [h.2], fun j _ => by rw [h.2], by rw [h.2]⟩
theorem zt_pw.a {f : Nat → Int32} : zt_pw M (M.sA 2 f) := ⟨fun _ _ => rfl, rfl, fun j hj => by show va_up M.2.2.1 2 f j = _; rw [va_up_ne _ _ hj], rfl⟩
/-- the reference reads at X -/
def zt_px (b : Nat → Nat) (L : Nat) (X : zp_X) (M : zt_M) : Prop := zt_ps b L X.1 M ∧ M.2.2.1 2 = X.2
theorem zt_px.mk {D : zs_V} (h1 : zt_ps b L S M) (h2 : M.2.2.1 2 = D) : zt_px b L (S, D) M := ⟨h1, h2⟩
theorem zt_px.pr (hs : zt_px b L X M) (h : zt_pr M M') (h' : zt_ps b L S M') : zt_px b L (S, X.2) M' := ⟨h', by rw [h.2]; exact hs.2⟩
theorem zt_px.a {f : Nat → Int32} (hs : zt_px b L X M) : zt_px b L (X.1, f) (M.sA 2 f) := ⟨hs.1.fr (fun _ _ _ => rfl) (by show va_up M.2.2.1 2 f 18 = _; rw [va_up_ne _ _ (by omega)]), rfl⟩
theorem zt_ps.a {f : Nat → Int32} (hs : zt_ps b L S M) : zt_ps b L S (M.sA 2 f) := hs.fr (fun _ _ _ => rfl) (by show va_up M.2.2.1 2 f 18 = _; rw [va_up_ne _ _ (by omega)])
theorem zt_rd (hm : G.1 ≤ m) (hs : zt_px b L X M) {i lo hi : Nat} (hi6 : i < 61) (hlo : lo ≤ 1000) (hhi : hi ≤ 10000) {K : zS → Prop} (h : ∀ M', zt_pw M M' → zt_px b L (zp_rd b L X i lo hi) M' → K (zt_S σ m N M')) : zCall G (n + 5) 276 [.ref m, .int (nI lo), .int (nI hi)] (zqI (fun v s => zsI s G.1 0 (some (m + 2)) (nI i) v K)) Y (zt_S σ m N M) := by
  refine zt_276 hm hs.1 hlo hhi fun M' k1 k2 => zqI_r.mpr ?_
  simp only [↓zt_rc, ↓zt_g0, ↓zt_g1, ↓zt_g2, ↓zt_g3, ↓zt_g4, ↓zt_g5, ↓zt_g6, ↓zt_g7, ↓zt_g8, ↓zt_g9, ↓zt_g10, ↓zt_g11, ↓zt_g12, ↓zt_g13, ↓zt_g14, ↓zt_g15, ↓zt_g16, ↓zt_g17, ↓zt_g18, ↓zt_g19, ↓zt_g20, ↓zt_g21, ↓zt_g22, ↓zt_g23, ↓zt_g24, ↓zt_g25, ↓zt_g26, ↓zt_g27, ↓zt_g28, ↓zt_g29, ↓zt_g30, ↓zt_g31, ↓zt_g32, ↓zt_g33, ↓zt_g34, ↓zt_g35, ↓zt_g36, ↓zt_g37, ↓zt_g38, ↓zt_g39, ↓zt_g40, ↓zt_p4 hm, ↓zt_p5 hm, ↓zt_p6 hm, ↓zt_p15 hm, ↓zt_p21 hm, ↓zt_p22 hm, ↓zt_p23 hm, ↓zt_p26 hm, ↓zt_p28 hm, ↓zt_p29 hm, ↓zt_p30 hm, ↓zt_p31 hm, ↓zt_p32 hm, ↓zt_p33 hm, ↓zt_p34 hm, ↓zt_p35 hm, ↓zt_p36 hm, ↓zt_p40 hm, ↓zt_p19 hm, ↓zt_p20 hm, ↓zt_a1, ↓zt_a2, ↓zt_a3, ↓zt_a4, ↓zt_a5, ↓zt_a6, ↓zt_a7, ↓zt_a8, ↓zt_a9, ↓zt_a10, ↓zt_a11, ↓zt_a12, ↓zt_a13, ↓zt_a14, ↓zt_a15, ↓zt_a16, ↓zt_a17, ↓zt_a18, ↓zt_a19, ↓zt_a20, ↓zt_a21, ↓zt_s1 hm, ↓zt_s2 hm, ↓zt_s3 hm, ↓zt_s4 hm, ↓zt_s5 hm, ↓zt_s6 hm, ↓zt_s7 hm, ↓zt_s8 hm, ↓zt_s9 hm, ↓zt_s10 hm, ↓zt_s11 hm, ↓zt_s12 hm, ↓zt_s16 hm, ↓zt_s17 hm, ↓zt_s18 hm, ↓zt_s20 hm, ↓zt_s13 hm, ↓zt_s14 hm, ↓zt_s15 hm, ↓zt_s21 hm, ↓zt_l19, ↓zt_l17, forall_eq, ↓zqI_r, ↓zqL_r, ↓zqD_r, ↓zqF_r, ↓zqV_r, ↓zqR_r, ↓zqR_s, zboolb, zbool0, zbool1, true_and, and_true, nI_cl (show i < 2147483648 by omega)]
  refine ⟨nI_i (by omega) (by omega), ?_⟩
  have k3 := hs.pr k1 k2
  have e : M'.2.2.1 2 = X.2 := k3.2
  rw [e]
  exact h _ ((zt_pw.pr k1).trans zt_pw.a) k3.a
theorem zs_n_of {V : zs_V} {k : Nat} (h : V 0 = nI k) (hk : k ≤ 1000) : zs_n V = k := by
  unfold zs_n
  rw [h, nI_cl (by omega)]
theorem zp_fd_0 {b : Nat → Nat} {L p : Nat} (hp : 0 < p) (X : zp_X) : ∀ k, (zp_fd b L p X k).2 0 = X.2 0
  | 0 => by
    show va_up X.2 p (nI (zp_nv b L X.1 1 50)) 0 = _
    rw [va_up_ne _ _ (by omega)]
  | k + 1 => by
    show va_up (zp_fd b L p X k).2 (p + (k + 1)) (nI (zp_nv b L (zp_fd b L p X k).1 0 99)) 0 = _
    rw [va_up_ne _ _ (by omega)]
    exact zp_fd_0 hp X k
theorem zt_281 (hm : G.1 ≤ m) (hs : zt_px b L X M) {k : Nat} (hk : X.2 0 = nI k) (hk10 : k ≤ 10) (h : ∀ M', zt_pw M M' → zt_px b L (zp_item b L X) M' → Q none (zt_S σ m N M')) : zCall G (n + 6) 281 [.ref m] Q Y (zt_S σ m N M) := by
  have hn := zs_n_of hk (by omega)
  have e0 : M.2.2.1 2 0 = nI k := by rw [hs.2]; exact hk
  refine ze281 ⟨_, rfl, ?_⟩
  simp only [↓zt_g1, ↓zt_a2, zi_0, zj_0, e0, true_and]
  refine zJ_go (fun (j : Int32 → zS → Prop) => j (zs_b (zs_n X.2 < 10)) (zt_S σ m N M)) ?_ ?_
  · simp only [↓zt_rc]
    refine zt_273 hm hs.1 (c := 3) (by omega) fun M1 k1 k2 => zqV_r.mpr ?_
    simp only [↓zt_rc]
    refine zt_275 hm k2 fun M2 k3 k4 => zqV_r.mpr ?_
    have k4 : zt_ps b L (zp_i1 b L X) M2 := k4
    have k5 : zt_px b L (zp_i1 b L X, X.2) M2 := hs.pr (k1.trans k3) k4
    have e2 : M2.2.2.1 2 0 = nI k := by rw [k5.2]; exact hk
    have ep : ((11 : Int32) + 4 * nI k) + 0 = nI (11 + 4 * k) := by
      show nI 11 + nI 4 * nI k + nI 0 = _
      rw [zn_mul, nI_add, nI_add, Nat.add_zero]
    have epp : (11 : Int32) + 4 * nI k = nI (11 + 4 * k) := by
      show nI 11 + nI 4 * nI k = _
      rw [zn_mul, nI_add]
    simp only [↓zt_g33, k4.e0, ↓zt_g1, ↓zt_a2, zi_0, zj_0, e2, true_and, ↓zt_rc, ep, forall_eq]
    refine ⟨fun he => ?_, fun hn0 => ?_⟩
    · have hk9 : k < 10 := by
        have h9 := he
        unfold zp_i1 at h9
        rw [zp_adv_e] at h9
        have := (zp_chk_e (by omega) h9).1
        rw [hn] at this
        exact this
      have e11 : 11 + 4 * k = 11 + 4 * zs_n X.2 := by rw [hn]
      refine zt_rd hm k5 (i := 11 + 4 * k) (lo := 1) (hi := 50) (by omega) (by omega) (by omega) fun M3 k6 k7 => ?_
      refine zf2 1 4 (fun q s' => ∃ M4, s' = zt_S σ m N M4 ∧ zt_pw M M4 ∧ zt_px b L (zp_fd b L (11 + 4 * k) (zp_i1 b L X, X.2) (q - 1)) M4) (by omega) ?_ ?_ ⟨M3, rfl, (zt_pw.pr (k1.trans k3)).trans k6, k7⟩
      · rintro rec q s' hq1 hq2 ⟨M4, rfl, k8, k9⟩ hrec
        refine ⟨fun h9 => absurd h9 (by show ¬ nI 3 < nI q; rw [nI_ltI (by omega) (by omega)]; omega), fun _ => ?_⟩
        simp only [↓zt_g1, ↓zt_rc, epp, nI_add, forall_eq]
        refine zt_rd hm k9 (i := 11 + 4 * k + q) (lo := 0) (hi := 99) (by omega) (by omega) (by omega) fun M5 k10 k11 => ?_
        refine hrec _ ⟨M5, rfl, k8.trans k10, ?_⟩
        obtain ⟨q', rfl⟩ : ∃ q', q = q' + 1 := ⟨q - 1, by omega⟩
        exact k11
      · rintro rec s' ⟨M4, rfl, k8, k9⟩
        refine ⟨fun _ => ?_, fun h9 => absurd (show nI 3 < nI 4 by decide) h9⟩
        have e4 : M4.2.2.1 2 0 = nI k := by rw [k9.2, zp_fd_0 (by omega)]; exact hk
        simp only [↓zt_rc, ↓zt_g0, ↓zt_g1, ↓zt_g2, ↓zt_g3, ↓zt_g4, ↓zt_g5, ↓zt_g6, ↓zt_g7, ↓zt_g8, ↓zt_g9, ↓zt_g10, ↓zt_g11, ↓zt_g12, ↓zt_g13, ↓zt_g14, ↓zt_g15, ↓zt_g16, ↓zt_g17, ↓zt_g18, ↓zt_g19, ↓zt_g20, ↓zt_g21, ↓zt_g22, ↓zt_g23, ↓zt_g24, ↓zt_g25, ↓zt_g26, ↓zt_g27, ↓zt_g28, ↓zt_g29, ↓zt_g30, ↓zt_g31, ↓zt_g32, ↓zt_g33, ↓zt_g34, ↓zt_g35, ↓zt_g36, ↓zt_g37, ↓zt_g38, ↓zt_g39, ↓zt_g40, ↓zt_p4 hm, ↓zt_p5 hm, ↓zt_p6 hm, ↓zt_p15 hm, ↓zt_p21 hm, ↓zt_p22 hm, ↓zt_p23 hm, ↓zt_p26 hm, ↓zt_p28 hm, ↓zt_p29 hm, ↓zt_p30 hm, ↓zt_p31 hm, ↓zt_p32 hm, ↓zt_p33 hm, ↓zt_p34 hm, ↓zt_p35 hm, ↓zt_p36 hm, ↓zt_p40 hm, ↓zt_p19 hm, ↓zt_p20 hm, ↓zt_a1, ↓zt_a2, ↓zt_a3, ↓zt_a4, ↓zt_a5, ↓zt_a6, ↓zt_a7, ↓zt_a8, ↓zt_a9, ↓zt_a10, ↓zt_a11, ↓zt_a12, ↓zt_a13, ↓zt_a14, ↓zt_a15, ↓zt_a16, ↓zt_a17, ↓zt_a18, ↓zt_a19, ↓zt_a20, ↓zt_a21, ↓zt_s1 hm, ↓zt_s2 hm, ↓zt_s3 hm, ↓zt_s4 hm, ↓zt_s5 hm, ↓zt_s6 hm, ↓zt_s7 hm, ↓zt_s8 hm, ↓zt_s9 hm, ↓zt_s10 hm, ↓zt_s11 hm, ↓zt_s12 hm, ↓zt_s16 hm, ↓zt_s17 hm, ↓zt_s18 hm, ↓zt_s20 hm, ↓zt_s13 hm, ↓zt_s14 hm, ↓zt_s15 hm, ↓zt_s21 hm, ↓zt_l19, ↓zt_l17, forall_eq, ↓zqI_r, ↓zqL_r, ↓zqD_r, ↓zqF_r, ↓zqV_r, ↓zqR_r, ↓zqR_s, zboolb, zbool0, zbool1, true_and, and_true, zi_0, zj_0, e4, true_and, nI_1]
        have ei : zp_i2 b L X = zp_fd b L (11 + 4 * k) (zp_i1 b L X, X.2) 3 := by
          unfold zp_i2
          rw [hn]
        rw [show 4 - 1 = 3 from rfl, ← ei] at k9
        have ek : M4.2.2.1 2 = (zp_i2 b L X).2 := k9.2
        have k10 : zt_ps b L (zp_i2 b L X).1 (M4.sA 2 (va_up (M4.2.2.1 2) 0 (nI (k + 1)))) := k9.1.a
        refine zt_279 hm k10 (c := 59) (by omega) fun M5 k11 k12 => zqV_r.mpr (h M5 ((k8.trans zt_pw.a).trans (zt_pw.pr k11)) ?_)
        have e9 : zp_item b L X = (zp_xs b L (zp_i2 b L X).1 59, va_up (zp_i2 b L X).2 0 (nI (k + 1))) := by
          unfold zp_item
          rw [if_pos he, hn]
        rw [e9]
        refine zt_px.mk k12 ?_
        rw [k11.2]
        show va_up (M4.2.2.1 2) 0 (nI (k + 1)) = va_up (zp_i2 b L X).2 0 (nI (k + 1))
        rw [ek]
    · refine h M2 (zt_pw.pr (k1.trans k3)) ?_
      unfold zp_item
      rw [if_neg hn0]
      exact k5
  · intro j hj
    have c10 : (10 : Int32) ≤ nI k ↔ 10 ≤ k := nI_leI (a := 10) (by omega) (by omega)
    simp only [c10]
    rw [hn] at hj
    refine ⟨fun h9 => ?_, fun h9 => ?_⟩
    · rw [zs_bf (by omega)] at hj
      exact hj
    · rw [zs_bt (by omega)] at hj
      exact hj
end ZPD
