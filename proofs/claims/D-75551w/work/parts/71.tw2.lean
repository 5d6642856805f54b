section ZT2
variable {G : zPg} {n : Nat} {σ : zS} {m : Nat} {N : Nat → Option Nat} {M : zt_M} {Q : zQ} {Y : zY} {V : zs_V}
theorem zt_fin {d : Int} {s t : Nat} {A B : Prop} (h1 : -2000000 ≤ d) (h2 : d ≤ 2000000) (hs : s < 2147483648) (ht : t < 2147483648) (hA : (0 < d ∨ (d = 0 ∧ s < t)) → A) (hB : ¬ (0 < d ∨ (d = 0 ∧ s < t)) → B) : ((0 < iI d) → A) ∧ ((¬ 0 < iI d) → ((¬ iI d = 0) → B) ∧ ((iI d = 0) → ((nI t ≤ nI s) → B) ∧ ((¬ nI t ≤ nI s) → A))) := by
  have e1 : (0 : Int32) < iI d ↔ 0 < d := by
    show iI 0 < iI d ↔ _
    rw [iI_lt (by omega) (by omega) (by omega) (by omega)]
  have e2 : iI d = (0 : Int32) ↔ d = 0 := by
    show iI d = iI 0 ↔ _
    rw [iI_eq (by omega) (by omega) (by omega) (by omega)]
  rw [e1, e2, nI_leI (by omega) (by omega)]
  refine ⟨fun h => hA (by omega), fun h => ⟨fun h' => hB (by omega), fun h' => ⟨fun h'' => hB (by omega), fun h'' => hA (by omega)⟩⟩⟩
theorem zt_174 (hM : M.2.2.1 1 = V) (hV : zs_ok V) (hl : zt_ly V M (zs_all V)) {s t : Nat} (hs : s < zs_all V) (ht : t < zs_all V) {g : Bool} (hA : zs_bet V g s t = true → Q (some (.int 1)) (zt_S σ m N M)) (hB : zs_bet V g s t = false → Q (some (.int 0)) (zt_S σ m N M)) : zCall G (n + 1) 174 [.ref m, .int (nI s), .int (nI t), .int (if g then 1 else 0)] Q Y (zt_S σ m N M) := by
  have hall := hV.all
  have hg7s := hl 2 (by omega) s hs
  have hg7t := hl 2 (by omega) t ht
  have hg8s := hl 3 (by omega) s hs
  have hg8t := hl 3 (by omega) t ht
  have b1 := zs_w_b hV (f := 2) (by omega) s
  have b2 := zs_w_b hV (f := 2) (by omega) t
  have b3 := zs_w_b hV (f := 3) (by omega) s
  have b4 := zs_w_b hV (f := 3) (by omega) t
  simp only [Nat.reduceAdd] at hg7s hg7t hg8s hg8t
  have i1 : vp_in (nI s) 1024 := nI_i (by omega) (by omega)
  have i2 : vp_in (nI t) 1024 := nI_i (by omega) (by omega)
  refine ze174 ⟨_, _, _, _, rfl, ?_⟩
  simp only [↓zt_rc, ↓zt_g0, ↓zt_g1, ↓zt_g2, ↓zt_g3, ↓zt_g4, ↓zt_g5, ↓zt_g6, ↓zt_g7, ↓zt_g8, ↓zt_g9, ↓zt_g10, ↓zt_g11, ↓zt_g12, ↓zt_g13, ↓zt_g14, ↓zt_g15, ↓zt_g16, ↓zt_g17, ↓zt_g18, ↓zt_g19, ↓zt_g20, ↓zt_g21, ↓zt_g22, ↓zt_g23, ↓zt_g24, ↓zt_g25, ↓zt_g26, ↓zt_g27, ↓zt_g28, ↓zt_g29, ↓zt_g30, ↓zt_g31, ↓zt_g32, ↓zt_g33, ↓zt_g34, ↓zt_g35, ↓zt_g36, ↓zt_g37, ↓zt_g38, ↓zt_g39, ↓zt_g40, ↓zt_a1, ↓zt_a2, ↓zt_a3, ↓zt_a4, ↓zt_a5, ↓zt_a6, ↓zt_a7, ↓zt_a8, ↓zt_a9, ↓zt_a10, ↓zt_a11, ↓zt_a12, ↓zt_a13, ↓zt_a14, ↓zt_a15, ↓zt_a16, ↓zt_a17, ↓zt_a18, ↓zt_a19, ↓zt_a20, ↓zt_a21, ↓zt_l19, ↓zt_l17, forall_eq, ↓zqI_r, ↓zqL_r, ↓zqD_r, ↓zqF_r, ↓zqV_r, ↓zqR_r, ↓zqR_s, zboolb, zbool0, zbool1, true_and, and_true, zi_0, zj_0, zi_1, zj_1, zi_2, zj_2, zi_3, zj_3, zi_4, zj_4, zi_5, zj_5, zi_6, zj_6, zi_7, zj_7, zi_8, zj_8, zi_9, zj_9, zi_10, zj_10, true_and, and_true, zJ, nI_cl (show s < 2147483648 by omega), nI_cl (show t < 2147483648 by omega), hg7s, hg7t, hg8s, hg8t, hM, i1, i2, iI_sub, iI_neg]
  have hfin : ∀ d : Int, -2000 ≤ d → d ≤ 2000 → zs_bet V g s t = decide (0 < d ∨ (d = 0 ∧ s < t)) → ((0 < iI d) → Q (some (.int 1)) (zt_S σ m N M)) ∧ ((¬ 0 < iI d) → ((¬ iI d = 0) → Q (some (.int 0)) (zt_S σ m N M)) ∧ ((iI d = 0) → ((nI t ≤ nI s) → Q (some (.int 0)) (zt_S σ m N M)) ∧ ((¬ nI t ≤ nI s) → Q (some (.int 1)) (zt_S σ m N M)))) := by
    intro d d1 d2 e
    refine zt_fin (by omega) (by omega) (by omega) (by omega) (fun h => hA ?_) (fun h => hB ?_)
    · rw [e]; exact decide_eq_true h
    · rw [e]; exact decide_eq_false h
  cases g with
  | false =>
    have e : (if false = true then (1 : Int32) else 0) = 0 := rfl
    simp only [e, Bool.false_eq_true, if_false, not_true, false_implies, and_true, true_implies, true_and, not_false_eq_true]
    refine hfin _ (by omega) (by omega) ?_
    simp [zs_bet]
  | true =>
    have e : (if true = true then (1 : Int32) else 0) = 1 := rfl
    have e0 : ((1 : Int32) = 0) ↔ False := ⟨fun h => absurd h (by decide), fun h => h.elim⟩
    have e2 : iI (zs_w V 2 s - zs_w V 2 t) = (0 : Int32) ↔ zs_w V 2 s - zs_w V 2 t = 0 := by
      show _ = iI 0 ↔ _
      rw [iI_eq (by omega) (by omega) (by omega) (by omega)]
    simp only [e, if_true, e0, not_false_eq_true, false_implies, true_implies, true_and, e2]
    refine ⟨fun h => ⟨fun h3 => ?_, fun h3 => ?_⟩, fun h => ?_⟩
    · refine hfin _ (by omega) (by omega) ?_
      simp [zs_bet, h, h3]
    · refine hfin _ (by omega) (by omega) ?_
      simp [zs_bet, h, h3]
    · have h5 := hfin (zs_w V 2 s - zs_w V 2 t) (by omega) (by omega) (by simp [zs_bet, h])
      simp only [e2] at h5
      exact h5
theorem zt_173 (hM : M.2.2.1 1 = V) (hV : zs_ok V) (hl : zt_ly V M (zs_all V)) {p : Nat} (hp : p < zs_all V) {x : Int32} {g : Bool} (hx : -1000 ≤ x.toInt ∧ x.toInt ≤ 1000) (h : Q (some (.int (nI (zs_rep V g x.toInt p)))) (zt_S σ m N M)) : zCall G (n + 2) 173 [.ref m, .int (nI p), .int x, .int (if g then 1 else 0)] Q Y (zt_S σ m N M) := by
  have hall := hV.all
  have hn := hV.n0
  have hc := hV.c1
  have hw := zs_w_b hV (f := 0) (by omega) p
  have hp5 := hl 0 (by omega) p hp
  simp only [Nat.reduceAdd] at hp5
  have i1 : vp_in (nI p) 1024 := nI_i (by omega) (by omega)
  refine ze173 ⟨_, _, _, _, rfl, ?_⟩
  have c1 : V 1 = iI (zs_cap V) := zs_c1 V
  have e0 : ((1 : Int32) <<< (nI (zs_n V) &&& 31)) - 1 = nI (zs_all V - 1) := by
    rw [zn_shl _ (by omega)]
    show nI (zs_all V) - nI 1 = _
    rw [zn_sub hall.1]
  have e1 : nI (zs_all V - 1) &&& (nI p ^^^ (-1)) = nI (zs_all V - 1 - p) := zn_free (by omega) hp
  simp only [↓zt_rc, ↓zt_g0, ↓zt_g1, ↓zt_g2, ↓zt_g3, ↓zt_g4, ↓zt_g5, ↓zt_g6, ↓zt_g7, ↓zt_g8, ↓zt_g9, ↓zt_g10, ↓zt_g11, ↓zt_g12, ↓zt_g13, ↓zt_g14, ↓zt_g15, ↓zt_g16, ↓zt_g17, ↓zt_g18, ↓zt_g19, ↓zt_g20, ↓zt_g21, ↓zt_g22, ↓zt_g23, ↓zt_g24, ↓zt_g25, ↓zt_g26, ↓zt_g27, ↓zt_g28, ↓zt_g29, ↓zt_g30, ↓zt_g31, ↓zt_g32, ↓zt_g33, ↓zt_g34, ↓zt_g35, ↓zt_g36, ↓zt_g37, ↓zt_g38, ↓zt_g39, ↓zt_g40, ↓zt_a1, ↓zt_a2, ↓zt_a3, ↓zt_a4, ↓zt_a5, ↓zt_a6, ↓zt_a7, ↓zt_a8, ↓zt_a9, ↓zt_a10, ↓zt_a11, ↓zt_a12, ↓zt_a13, ↓zt_a14, ↓zt_a15, ↓zt_a16, ↓zt_a17, ↓zt_a18, ↓zt_a19, ↓zt_a20, ↓zt_a21, ↓zt_l19, ↓zt_l17, forall_eq, ↓zqI_r, ↓zqL_r, ↓zqD_r, ↓zqF_r, ↓zqV_r, ↓zqR_r, ↓zqR_s, zboolb, zbool0, zbool1, true_and, and_true, zi_0, zj_0, zi_1, zj_1, zi_2, zj_2, zi_3, zj_3, zi_4, zj_4, zi_5, zj_5, zi_6, zj_6, zi_7, zj_7, zi_8, zj_8, zi_9, zj_9, zi_10, zj_10, true_and, and_true, ↓zl_156, ↓zl_159, ↓zl_165, ↓zl_166, ↓zl_167, ↓zl_179, ↓zl_181, ↓zl_184, ↓zl_188, ↓zl_189, ↓zl_190, ↓zl_191, ↓zl_192, ↓zl_203, ↓zl_216, ↓zl_226, zJ, nI_cl (show p < 2147483648 by omega), hp5, hM, i1, c1, iI_sub, hn.1, e0, e1]
  have ex : x ≤ iI (zs_cap V - zs_w V 0 p) ↔ x.toInt ≤ zs_cap V - zs_w V 0 p := by rw [fa_le, iI_to (by omega) (by omega)]
  rw [ex]
  refine ⟨fun h1 => ?_, fun h1 => ?_⟩
  · have er : zs_rep V g x.toInt p = zs_best V g p := by unfold zs_rep; rw [if_neg (by omega)]
    rw [er] at h
    refine zl3 (fun (a b : Int32) s' => s' = zt_S σ m N M ∧ ∃ best set q, a = nI best ∧ b = nI set ∧ set < zs_all V ∧ best < zs_all V ∧ set < q ∧ zs_fil V g (zs_cap V - zs_w V 0 p) (zs_all V - 1 - p) q set best = zs_best V g p) (fun _ b _ => b.toNatClampNeg) ?_ _ _ _ ⟨rfl, 0, zs_all V - 1 - p, 1024, rfl, rfl, by omega, by omega, by omega, rfl⟩
    rintro rec a b s' ⟨rfl, best, set, q, rfl, rfl, hs1, hs2, hq, hf⟩ hrec
    have i2 : vp_in (nI set) 1024 := nI_i (by omega) (by omega)
    have hs5 := hl 0 (by omega) set hs1
    have hws := zs_w_b hV (f := 0) (by omega) set
    simp only [Nat.reduceAdd] at hs5
    simp only [↓zt_rc, ↓zt_g0, ↓zt_g1, ↓zt_g2, ↓zt_g3, ↓zt_g4, ↓zt_g5, ↓zt_g6, ↓zt_g7, ↓zt_g8, ↓zt_g9, ↓zt_g10, ↓zt_g11, ↓zt_g12, ↓zt_g13, ↓zt_g14, ↓zt_g15, ↓zt_g16, ↓zt_g17, ↓zt_g18, ↓zt_g19, ↓zt_g20, ↓zt_g21, ↓zt_g22, ↓zt_g23, ↓zt_g24, ↓zt_g25, ↓zt_g26, ↓zt_g27, ↓zt_g28, ↓zt_g29, ↓zt_g30, ↓zt_g31, ↓zt_g32, ↓zt_g33, ↓zt_g34, ↓zt_g35, ↓zt_g36, ↓zt_g37, ↓zt_g38, ↓zt_g39, ↓zt_g40, ↓zt_a1, ↓zt_a2, ↓zt_a3, ↓zt_a4, ↓zt_a5, ↓zt_a6, ↓zt_a7, ↓zt_a8, ↓zt_a9, ↓zt_a10, ↓zt_a11, ↓zt_a12, ↓zt_a13, ↓zt_a14, ↓zt_a15, ↓zt_a16, ↓zt_a17, ↓zt_a18, ↓zt_a19, ↓zt_a20, ↓zt_a21, ↓zt_l19, ↓zt_l17, forall_eq, ↓zqI_r, ↓zqL_r, ↓zqD_r, ↓zqF_r, ↓zqV_r, ↓zqR_r, ↓zqR_s, zboolb, zbool0, zbool1, true_and, and_true, zi_0, zj_0, zi_1, zj_1, zi_2, zj_2, zi_3, zj_3, zi_4, zj_4, zi_5, zj_5, zi_6, zj_6, zi_7, zj_7, zi_8, zj_8, zi_9, zj_9, zi_10, zj_10, true_and, and_true, zJ, nI_cl (show set < 2147483648 by omega), hs5, i2]
    have el : nI set ≤ 0 ↔ set = 0 := by
      show nI set ≤ nI 0 ↔ _
      rw [nI_leI (by omega) (by omega)]
      omega
    have ew : iI (zs_cap V - zs_w V 0 p) < iI (zs_w V 0 set) ↔ ¬ zs_w V 0 set ≤ zs_cap V - zs_w V 0 p := by
      rw [iI_lt (by omega) (by omega) (by omega) (by omega)]
      omega
    rw [el, ew]
    obtain ⟨q, rfl⟩ : ∃ q', q = q' + 1 := ⟨q - 1, by omega⟩
    simp only [zs_fil] at hf
    refine ⟨fun h0 => ?_, fun h0 => ?_⟩
    · rw [if_pos h0] at hf
      rw [hf]
      exact h
    · rw [if_neg h0] at hf
      have es : (nI set - 1) &&& nI (zs_all V - 1 - p) = nI ((set - 1) &&& (zs_all V - 1 - p)) := by
        show (nI set - nI 1) &&& _ = _
        rw [zn_sub (by omega), nx_and]
      have hlt : (set - 1) &&& (zs_all V - 1 - p) ≤ set - 1 := Nat.and_le_left
      have go : ∀ b' : Nat, b' < zs_all V → zs_fil V g (zs_cap V - zs_w V 0 p) (zs_all V - 1 - p) q ((set - 1) &&& (zs_all V - 1 - p)) b' = zs_best V g p → rec (nI b') ((nI set - 1) &&& nI (zs_all V - 1 - p)) (zt_S σ m N M) := by
        intro b' hb' hf'
        rw [es]
        refine hrec _ _ _ ⟨rfl, b', (set - 1) &&& (zs_all V - 1 - p), q, rfl, rfl, by omega, hb', by omega, hf'⟩ ?_
        rw [nI_cl (by omega), nI_cl (by omega)]
        omega
      refine ⟨fun h2 => go best hs2 ?_, fun h2 => ?_⟩
      · rw [if_neg (fun h9 => h2 h9.1)] at hf
        exact hf
      · refine zt_174 hM hV hl hs1 hs2 (fun h3 => ?_) (fun h3 => ?_)
        · simp only [forall_eq, ↓zqI_r, ↓zqL_r, ↓zqD_r, ↓zqF_r, ↓zqV_r, ↓zqR_r, ↓zqR_s]
          refine ⟨fun h9 => absurd h9 (by decide), fun _ => go set hs1 ?_⟩
          rw [if_pos ⟨Classical.not_not.mp h2, h3⟩] at hf
          exact hf
        · simp only [forall_eq, ↓zqI_r, ↓zqL_r, ↓zqD_r, ↓zqF_r, ↓zqV_r, ↓zqR_r, ↓zqR_s]
          refine ⟨fun _ => go best hs2 ?_, fun h9 => absurd trivial h9⟩
          rw [if_neg (fun h9 => by rw [h3] at h9; exact absurd h9.2 (by decide))] at hf
          exact hf
  · have er : zs_rep V g x.toInt p = 0 := by unfold zs_rep; rw [if_pos (by omega)]
    rw [er] at h
    exact h
/-- sums and replies are laid -/
def zt_lr (V : zs_V) (g : Bool) (t : Int) (M : zt_M) (q : Nat) : Prop := ∀ p, p < q → M.2.2.1 9 p = nI (if zs_w V 0 p ≤ zs_cap V then zs_rep V g t p else 0)
theorem zt_178 (hm : G.1 ≤ m) (hM : M.2.2.1 1 = V) (hV : zs_ok V) {x : Int32} {g : Bool} (hx : -1000 ≤ x.toInt ∧ x.toInt ≤ 1000) (h : ∀ M', zt_kp 5 9 M M' → zt_ly V M' (zs_all V) → zt_lr V g x.toInt M' (zs_all V) → Q none (zt_S σ m N M')) : zCall G (n + 4) 178 [.ref m, .int x, .int (if g then 1 else 0)] Q Y (zt_S σ m N M) := by
  have hA := hV.all
  have hn := hV.n0
  have hc := hV.c1
  refine ze178 ⟨_, _, _, rfl, ?_⟩
  simp only [↓zt_rc, ↓zt_g0, ↓zt_g1, ↓zt_g2, ↓zt_g3, ↓zt_g4, ↓zt_g5, ↓zt_g6, ↓zt_g7, ↓zt_g8, ↓zt_g9, ↓zt_g10, ↓zt_g11, ↓zt_g12, ↓zt_g13, ↓zt_g14, ↓zt_g15, ↓zt_g16, ↓zt_g17, ↓zt_g18, ↓zt_g19, ↓zt_g20, ↓zt_g21, ↓zt_g22, ↓zt_g23, ↓zt_g24, ↓zt_g25, ↓zt_g26, ↓zt_g27, ↓zt_g28, ↓zt_g29, ↓zt_g30, ↓zt_g31, ↓zt_g32, ↓zt_g33, ↓zt_g34, ↓zt_g35, ↓zt_g36, ↓zt_g37, ↓zt_g38, ↓zt_g39, ↓zt_g40, ↓zt_p4 hm, ↓zt_p5 hm, ↓zt_p6 hm, ↓zt_p15 hm, ↓zt_p21 hm, ↓zt_p22 hm, ↓zt_p23 hm, ↓zt_p26 hm, ↓zt_p28 hm, ↓zt_p29 hm, ↓zt_p30 hm, ↓zt_p31 hm, ↓zt_p32 hm, ↓zt_p33 hm, ↓zt_p34 hm, ↓zt_p35 hm, ↓zt_p36 hm, ↓zt_p40 hm, ↓zt_p19 hm, ↓zt_p20 hm, ↓zt_a1, ↓zt_a2, ↓zt_a3, ↓zt_a4, ↓zt_a5, ↓zt_a6, ↓zt_a7, ↓zt_a8, ↓zt_a9, ↓zt_a10, ↓zt_a11, ↓zt_a12, ↓zt_a13, ↓zt_a14, ↓zt_a15, ↓zt_a16, ↓zt_a17, ↓zt_a18, ↓zt_a19, ↓zt_a20, ↓zt_a21, ↓zt_s1 hm, ↓zt_s2 hm, ↓zt_s3 hm, ↓zt_s4 hm, ↓zt_s5 hm, ↓zt_s6 hm, ↓zt_s7 hm, ↓zt_s8 hm, ↓zt_s9 hm, ↓zt_s10 hm, ↓zt_s11 hm, ↓zt_s12 hm, ↓zt_s16 hm, ↓zt_s17 hm, ↓zt_s18 hm, ↓zt_s20 hm, ↓zt_s13 hm, ↓zt_s14 hm, ↓zt_s15 hm, ↓zt_s21 hm, ↓zt_l19, ↓zt_l17, forall_eq, ↓zqI_r, ↓zqL_r, ↓zqD_r, ↓zqF_r, ↓zqV_r, ↓zqR_r, ↓zqR_s, zboolb, zbool0, zbool1, true_and, and_true]
  refine zt_172 hm hM hV (fun M1 hk1 hl1 => ?_)
  simp only [forall_eq, ↓zqI_r, ↓zqL_r, ↓zqD_r, ↓zqF_r, ↓zqV_r, ↓zqR_r, ↓zqR_s]
  refine zf2 0 (zs_all V) (fun q s' => ∃ M', s' = zt_S σ m N M' ∧ zt_kp 5 9 M M' ∧ zt_ly V M' (zs_all V) ∧ zt_lr V g x.toInt M' q) (by omega) ?_ ?_ ⟨M1, rfl, hk1.wide (by omega) (by omega), hl1, fun p hp => absurd hp (by omega)⟩
  · rintro rec q s' _ hq ⟨M', rfl, hk, hl, hr⟩ hrec
    have e1 : M'.2.2.1 1 = V := (hk.2.2.2 1 (by omega)).trans hM
    have hw := zs_w_b hV (f := 0) (by omega) q
    have h5 := hl 0 (by omega) q hq
    simp only [Nat.reduceAdd] at h5
    have i1 : vp_in (nI q) 1024 := nI_i (by omega) (by omega)
    simp only [↓zt_rc, ↓zt_g0, ↓zt_g1, ↓zt_g2, ↓zt_g3, ↓zt_g4, ↓zt_g5, ↓zt_g6, ↓zt_g7, ↓zt_g8, ↓zt_g9, ↓zt_g10, ↓zt_g11, ↓zt_g12, ↓zt_g13, ↓zt_g14, ↓zt_g15, ↓zt_g16, ↓zt_g17, ↓zt_g18, ↓zt_g19, ↓zt_g20, ↓zt_g21, ↓zt_g22, ↓zt_g23, ↓zt_g24, ↓zt_g25, ↓zt_g26, ↓zt_g27, ↓zt_g28, ↓zt_g29, ↓zt_g30, ↓zt_g31, ↓zt_g32, ↓zt_g33, ↓zt_g34, ↓zt_g35, ↓zt_g36, ↓zt_g37, ↓zt_g38, ↓zt_g39, ↓zt_g40, ↓zt_p4 hm, ↓zt_p5 hm, ↓zt_p6 hm, ↓zt_p15 hm, ↓zt_p21 hm, ↓zt_p22 hm, ↓zt_p23 hm, ↓zt_p26 hm, ↓zt_p28 hm, ↓zt_p29 hm, ↓zt_p30 hm, ↓zt_p31 hm, ↓zt_p32 hm, ↓zt_p33 hm, ↓zt_p34 hm, ↓zt_p35 hm, ↓zt_p36 hm, ↓zt_p40 hm, ↓zt_p19 hm, ↓zt_p20 hm, ↓zt_a1, ↓zt_a2, ↓zt_a3, ↓zt_a4, ↓zt_a5, ↓zt_a6, ↓zt_a7, ↓zt_a8, ↓zt_a9, ↓zt_a10, ↓zt_a11, ↓zt_a12, ↓zt_a13, ↓zt_a14, ↓zt_a15, ↓zt_a16, ↓zt_a17, ↓zt_a18, ↓zt_a19, ↓zt_a20, ↓zt_a21, ↓zt_s1 hm, ↓zt_s2 hm, ↓zt_s3 hm, ↓zt_s4 hm, ↓zt_s5 hm, ↓zt_s6 hm, ↓zt_s7 hm, ↓zt_s8 hm, ↓zt_s9 hm, ↓zt_s10 hm, ↓zt_s11 hm, ↓zt_s12 hm, ↓zt_s16 hm, ↓zt_s17 hm, ↓zt_s18 hm, ↓zt_s20 hm, ↓zt_s13 hm, ↓zt_s14 hm, ↓zt_s15 hm, ↓zt_s21 hm, ↓zt_l19, ↓zt_l17, forall_eq, ↓zqI_r, ↓zqL_r, ↓zqD_r, ↓zqF_r, ↓zqV_r, ↓zqR_r, ↓zqR_s, zboolb, zbool0, zbool1, true_and, and_true, ↓zl_156, ↓zl_159, ↓zl_163 hm, ↓zl_165, ↓zl_166, ↓zl_167, ↓zl_179, ↓zl_181, ↓zl_184, ↓zl_188, ↓zl_189, ↓zl_190, ↓zl_191, ↓zl_192, ↓zl_203, ↓zl_216, ↓zl_226, ↓zl_255 hm, zJ, e1, hn.1, i1, nI_cl (show q < 2147483648 by omega), h5, zs_c1 V, zs_b0]
    rw [zn_shl _ (by omega), iI_le (by omega) (by omega) (by omega) (by omega)]
    refine ⟨fun hle => absurd hle (nI_ge hq (by unfold zs_all at hA; omega)), fun _ => ?_⟩
    have fin : ∀ v : Nat, v = (if zs_w V 0 q ≤ zs_cap V then zs_rep V g x.toInt q else 0) → rec (nI q + 1) (zt_S σ m N (M'.sA 9 (va_up (M'.2.2.1 9) q (nI v)))) := by
      intro v hv
      refine hrec _ ⟨_, rfl, hk.trans (zt_kp.set (by omega) (by omega)), ?_, ?_⟩
      · intro f hf s hs
        rw [← hl f hf s hs]
        exact congrFun (va_up_ne _ _ (by omega)) s
      · intro p hp
        show va_up (M'.2.2.1 9) q (nI v) p = _
        by_cases e : p = q
        · subst e
          rw [va_up_self, hv]
        · rw [va_up_ne _ _ e]
          exact hr p (by omega)
    refine ⟨fun h0 => ?_, fun h0 => ?_⟩
    · exact fin 0 (by rw [if_neg h0])
    · refine zt_173 e1 hV hl hq hx ?_
      simp only [↓zt_rc, ↓zt_g0, ↓zt_g1, ↓zt_g2, ↓zt_g3, ↓zt_g4, ↓zt_g5, ↓zt_g6, ↓zt_g7, ↓zt_g8, ↓zt_g9, ↓zt_g10, ↓zt_g11, ↓zt_g12, ↓zt_g13, ↓zt_g14, ↓zt_g15, ↓zt_g16, ↓zt_g17, ↓zt_g18, ↓zt_g19, ↓zt_g20, ↓zt_g21, ↓zt_g22, ↓zt_g23, ↓zt_g24, ↓zt_g25, ↓zt_g26, ↓zt_g27, ↓zt_g28, ↓zt_g29, ↓zt_g30, ↓zt_g31, ↓zt_g32, ↓zt_g33, ↓zt_g34, ↓zt_g35, ↓zt_g36, ↓zt_g37, ↓zt_g38, ↓zt_g39, ↓zt_g40, ↓zt_p4 hm, ↓zt_p5 hm, ↓zt_p6 hm, ↓zt_p15 hm, ↓zt_p21 hm, ↓zt_p22 hm, ↓zt_p23 hm, ↓zt_p26 hm, ↓zt_p28 hm, ↓zt_p29 hm, ↓zt_p30 hm, ↓zt_p31 hm, ↓zt_p32 hm, ↓zt_p33 hm, ↓zt_p34 hm, ↓zt_p35 hm, ↓zt_p36 hm, ↓zt_p40 hm, ↓zt_p19 hm, ↓zt_p20 hm, ↓zt_a1, ↓zt_a2, ↓zt_a3, ↓zt_a4, ↓zt_a5, ↓zt_a6, ↓zt_a7, ↓zt_a8, ↓zt_a9, ↓zt_a10, ↓zt_a11, ↓zt_a12, ↓zt_a13, ↓zt_a14, ↓zt_a15, ↓zt_a16, ↓zt_a17, ↓zt_a18, ↓zt_a19, ↓zt_a20, ↓zt_a21, ↓zt_s1 hm, ↓zt_s2 hm, ↓zt_s3 hm, ↓zt_s4 hm, ↓zt_s5 hm, ↓zt_s6 hm, ↓zt_s7 hm, ↓zt_s8 hm, ↓zt_s9 hm, ↓zt_s10 hm, ↓zt_s11 hm, ↓zt_s12 hm, ↓zt_s16 hm, ↓zt_s17 hm, ↓zt_s18 hm, ↓zt_s20 hm, ↓zt_s13 hm, ↓zt_s14 hm, ↓zt_s15 hm, ↓zt_s21 hm, ↓zt_l19, ↓zt_l17, forall_eq, ↓zqI_r, ↓zqL_r, ↓zqD_r, ↓zqF_r, ↓zqV_r, ↓zqR_r, ↓zqR_s, zboolb, zbool0, zbool1, true_and, and_true, i1, nI_cl (show q < 2147483648 by omega)]
      exact fin _ (by rw [if_pos (Classical.not_not.mp h0)])
  · rintro rec s' ⟨M', rfl, hk, hl, hr⟩
    have e1 : M'.2.2.1 1 = V := (hk.2.2.2 1 (by omega)).trans hM
    simp only [↓zt_rc, ↓zt_g0, ↓zt_g1, ↓zt_g2, ↓zt_g3, ↓zt_g4, ↓zt_g5, ↓zt_g6, ↓zt_g7, ↓zt_g8, ↓zt_g9, ↓zt_g10, ↓zt_g11, ↓zt_g12, ↓zt_g13, ↓zt_g14, ↓zt_g15, ↓zt_g16, ↓zt_g17, ↓zt_g18, ↓zt_g19, ↓zt_g20, ↓zt_g21, ↓zt_g22, ↓zt_g23, ↓zt_g24, ↓zt_g25, ↓zt_g26, ↓zt_g27, ↓zt_g28, ↓zt_g29, ↓zt_g30, ↓zt_g31, ↓zt_g32, ↓zt_g33, ↓zt_g34, ↓zt_g35, ↓zt_g36, ↓zt_g37, ↓zt_g38, ↓zt_g39, ↓zt_g40, ↓zt_p4 hm, ↓zt_p5 hm, ↓zt_p6 hm, ↓zt_p15 hm, ↓zt_p21 hm, ↓zt_p22 hm, ↓zt_p23 hm, ↓zt_p26 hm, ↓zt_p28 hm, ↓zt_p29 hm, ↓zt_p30 hm, ↓zt_p31 hm, ↓zt_p32 hm, ↓zt_p33 hm, ↓zt_p34 hm, ↓zt_p35 hm, ↓zt_p36 hm, ↓zt_p40 hm, ↓zt_p19 hm, ↓zt_p20 hm, ↓zt_a1, ↓zt_a2, ↓zt_a3, ↓zt_a4, ↓zt_a5, ↓zt_a6, ↓zt_a7, ↓zt_a8, ↓zt_a9, ↓zt_a10, ↓zt_a11, ↓zt_a12, ↓zt_a13, ↓zt_a14, ↓zt_a15, ↓zt_a16, ↓zt_a17, ↓zt_a18, ↓zt_a19, ↓zt_a20, ↓zt_a21, ↓zt_s1 hm, ↓zt_s2 hm, ↓zt_s3 hm, ↓zt_s4 hm, ↓zt_s5 hm, ↓zt_s6 hm, ↓zt_s7 hm, ↓zt_s8 hm, ↓zt_s9 hm, ↓zt_s10 hm, ↓zt_s11 hm, ↓zt_s12 hm, ↓zt_s16 hm, ↓zt_s17 hm, ↓zt_s18 hm, ↓zt_s20 hm, ↓zt_s13 hm, ↓zt_s14 hm, ↓zt_s15 hm, ↓zt_s21 hm, ↓zt_l19, ↓zt_l17, forall_eq, ↓zqI_r, ↓zqL_r, ↓zqD_r, ↓zqF_r, ↓zqV_r, ↓zqR_r, ↓zqR_s, zboolb, zbool0, zbool1, true_and, and_true, ↓zl_156, ↓zl_159, ↓zl_163 hm, ↓zl_165, ↓zl_166, ↓zl_167, ↓zl_179, ↓zl_181, ↓zl_184, ↓zl_188, ↓zl_189, ↓zl_190, ↓zl_191, ↓zl_192, ↓zl_203, ↓zl_216, ↓zl_226, ↓zl_255 hm, e1, hn.1]
    rw [zn_shl _ (by omega)]
    refine ⟨fun _ => h M' hk hl hr, fun hn => absurd (nI_le (Nat.le_refl _) (by unfold zs_all at hA; omega)) hn⟩
end ZT2
