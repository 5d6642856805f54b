/-! THE REFERENCE: questions on plans -/
/-- what stays in a call: all but scratch; t: what is thrown -/
def zt_pe (t : Int32) (M M' : zt_M) : Prop := M'.1 5 = t ∧ (∀ k, k = 4 ∨ k = 6 ∨ k = 26 ∨ k = 28 ∨ k = 35 → M'.1 k = M.1 k) ∧ ∀ j, j = 1 ∨ j = 3 ∨ j = 4 ∨ j = 17 ∨ j = 18 → M'.2.2.1 j = M.2.2.1 j
theorem zt_pe.thr {t : Int32} {M : zt_M} : zt_pe t M (M.sI 5 t) := ⟨rfl, fun k hk => va_up_ne _ _ (by omega), fun _ _ => rfl⟩
theorem zt_pe.re {t t' : Int32} {M M' : zt_M} (h : zt_pe t M M') : zt_pe t' M (M'.sI 5 t') := ⟨rfl, fun k hk => (va_up_ne _ _ (by omega)).trans (h.2.1 k hk), h.2.2⟩
theorem zt_pe.kp {t : Int32} {a b : Nat} {M M' M'' : zt_M} (h : zt_pe t M M') (h' : zt_kp a b M' M'') (ha : 5 ≤ a) (hb : b ≤ 16) : zt_pe t M M'' := ⟨by rw [h'.1]; exact h.1, fun k hk => by rw [h'.1]; exact h.2.1 k hk, fun j hj => (h'.2.2.2 j (by omega)).trans (h.2.2 j hj)⟩
theorem zt_pe.V {t : Int32} {M M' : zt_M} {V : zs_V} (h : zt_pe t M M') (hM : M.2.2.1 1 = V) : M'.2.2.1 1 = V := (h.2.2 1 (by omega)).trans hM
theorem zs_w0 (V : zs_V) (f : Nat) : zs_w V f 0 = 0 := by
  unfold zs_w
  generalize zs_n V = k
  induction k with
  | zero => rfl
  | succ k ih => simp [zs_sm, ih]
def zs_fit (V : zs_V) (p : Nat) : Prop := zs_w V 0 p ≤ zs_cap V
theorem zs_fit0 {V : zs_V} (h : zs_ok V) : zs_fit V 0 := by
  unfold zs_fit
  rw [zs_w0]
  exact h.c1.1
def zs_rs (V : zs_V) (g : Bool) (t : Int) (p : Nat) : Int := zs_w V 1 p - zs_w V 3 (if zs_w V 0 p ≤ zs_cap V then zs_rep V g t p else 0)
theorem zs_rs_fit {V : zs_V} {g : Bool} {t : Int} {p : Nat} (h : zs_fit V p) : zs_rs V g t p = zs_res V g t p := by
  have h' : zs_w V 0 p ≤ zs_cap V := h
  unfold zs_rs zs_res
  rw [if_pos h']
theorem zs_rs_b {V : zs_V} (h : zs_ok V) {g : Bool} {t : Int} {p : Nat} : -990 ≤ zs_rs V g t p ∧ zs_rs V g t p ≤ 990 := by
  have h1 := zs_w_b h (f := 1) (by omega) p
  have h2 := zs_w_b h (f := 3) (by omega) (if zs_w V 0 p ≤ zs_cap V then zs_rep V g t p else 0)
  unfold zs_rs
  omega
/-- how many plans there are -/
def zs_pm (V : zs_V) : Nat := zs_ct (fun s => zs_w V 0 s ≤ zs_cap V) (zs_all V)
/-- how many plans bring at least x, with a threshold t -/
def zs_pw (V : zs_V) (x : Int) (t : Int) : Nat := zs_ct (fun p => zs_w V 0 p ≤ zs_cap V ∧ x ≤ zs_res V true t p) (zs_all V)
def zs_fp (V : zs_V) : Nat → Nat
  | 0 => 0
  | k + 1 => if k = 0 then 0 else if zs_w V 0 k ≤ zs_cap V ∧ zs_res V false (zs_thr V) (zs_fp V k) < zs_res V false (zs_thr V) k then k else zs_fp V k
theorem zs_fp_ok {V : zs_V} (h : zs_ok V) : ∀ k, zs_fit V (zs_fp V k) ∧ (zs_fp V k < k ∨ zs_fp V k = 0)
  | 0 => ⟨zs_fit0 h, Or.inr rfl⟩
  | k + 1 => by
    have ih := zs_fp_ok h k
    simp only [zs_fp]
    by_cases h0 : k = 0
    · rw [if_pos h0]; exact ⟨zs_fit0 h, Or.inr rfl⟩
    · rw [if_neg h0]
      by_cases h1 : zs_w V 0 k ≤ zs_cap V ∧ zs_res V false (zs_thr V) (zs_fp V k) < zs_res V false (zs_thr V) k
      · rw [if_pos h1]; exact ⟨h1.1, Or.inl (by omega)⟩
      · rw [if_neg h1]; exact ⟨ih.1, by omega⟩
/-- how many plans are ranked ahead of p -/
def zs_place (V : zs_V) (p : Nat) : Nat := zs_ct (fun q => zs_w V 0 q ≤ zs_cap V ∧ (zs_res V true (zs_thr V) p < zs_res V true (zs_thr V) q ∨ (zs_res V true (zs_thr V) q = zs_res V true (zs_thr V) p ∧ q < p))) (zs_all V)
section ZT3
variable {G : zPg} {n : Nat} {σ : zS} {m : Nat} {N : Nat → Option Nat} {M : zt_M} {Q : zQ} {Y : zY} {V : zs_V}
theorem zl_fit (hM : M.2.2.1 1 = V) (hV : zs_ok V) (hl : zt_ly V M (zs_all V)) {p : Nat} (hp : p < zs_all V) : zCall G (n + 1) 179 [.ref m, .int (nI p)] Q Y (zt_S σ m N M) ↔ Q (some (.int (zs_b (zs_w V 0 p ≤ zs_cap V)))) (zt_S σ m N M) := by
  have hA := hV.all
  have h5 : M.2.2.1 5 p = iI (zs_w V 0 p) := hl 0 (by omega) p hp
  have hw := zs_w_b hV (f := 0) (by omega) p
  have hc := hV.c1
  rw [zl_179, nI_cl (by omega), h5, hM, zs_c1 V]
  have e : iI (zs_w V 0 p) ≤ iI (zs_cap V) ↔ zs_w V 0 p ≤ zs_cap V := iI_le (by omega) (by omega) (by omega) (by omega)
  rw [zs_bcong e]
  exact ⟨fun h => h.2, fun h => ⟨nI_i (by omega) (by omega), h⟩⟩
theorem zl_res (hV : zs_ok V) {g : Bool} {t : Int} (hl : zt_ly V M (zs_all V)) (hr : zt_lr V g t M (zs_all V)) {p : Nat} (hp : p < zs_all V) : zCall G (n + 1) 181 [.ref m, .int (nI p)] Q Y (zt_S σ m N M) ↔ Q (some (.int (iI (zs_rs V g t p)))) (zt_S σ m N M) := by
  have hA := hV.all
  have h6 : M.2.2.1 6 p = iI (zs_w V 1 p) := hl 1 (by omega) p hp
  have h9 := hr p hp
  have hb : (if zs_w V 0 p ≤ zs_cap V then zs_rep V g t p else 0) < zs_all V := by
    by_cases h : zs_w V 0 p ≤ zs_cap V
    · rw [if_pos h]; exact zs_rep_lt hV
    · rw [if_neg h]; omega
  have h8 : M.2.2.1 8 (if zs_w V 0 p ≤ zs_cap V then zs_rep V g t p else 0) = iI (zs_w V 3 (if zs_w V 0 p ≤ zs_cap V then zs_rep V g t p else 0)) := hl 3 (by omega) _ hb
  rw [zl_181, nI_cl (by omega), h6, h9, nI_cl (by omega), h8, iI_sub]
  unfold zs_rs
  exact ⟨fun h => h.2.2, fun h => ⟨nI_i (by omega) (by omega), nI_i (by omega) (by omega), h⟩⟩
theorem zl_shl (hM : M.2.2.1 1 = V) (hV : zs_ok V) : ((1 : Int32) <<< (M.2.2.1 1 0 &&& 31)) = nI (zs_all V) := by
  rw [hM, hV.n0.1, zn_shl _ (by have := hV.n0.2; omega)]
  rfl
theorem zt_158 (hM : M.2.2.1 1 = V) (hV : zs_ok V) (h : Q (some (.int (nI (zs_pm V)))) (zt_S σ m N M)) : zCall G (n + 4) 158 [.ref m] Q Y (zt_S σ m N M) := by
  have hA := hV.all
  have hc := hV.c1
  refine ze158 ⟨_, rfl, ?_⟩
  refine zf3 0 (zs_all V) (fun k x s' => s' = zt_S σ m N M ∧ x = nI (zs_ct (fun s => zs_w V 0 s ≤ zs_cap V) k)) (by omega) ?_ ?_ ⟨rfl, rfl⟩
  · rintro rec q x s' _ hq ⟨rfl, rfl⟩ hrec
    simp only [↓zt_rc, ↓zt_g0, ↓zt_g1, ↓zt_g2, ↓zt_g3, ↓zt_g4, ↓zt_g5, ↓zt_g6, ↓zt_g7, ↓zt_g8, ↓zt_g9, ↓zt_g10, ↓zt_g11, ↓zt_g12, ↓zt_g13, ↓zt_g14, ↓zt_g15, ↓zt_g16, ↓zt_g17, ↓zt_g18, ↓zt_g19, ↓zt_g20, ↓zt_g21, ↓zt_g22, ↓zt_g23, ↓zt_g24, ↓zt_g25, ↓zt_g26, ↓zt_g27, ↓zt_g28, ↓zt_g29, ↓zt_g30, ↓zt_g31, ↓zt_g32, ↓zt_g33, ↓zt_g34, ↓zt_g35, ↓zt_g36, ↓zt_g37, ↓zt_g38, ↓zt_g39, ↓zt_g40, ↓zt_a1, ↓zt_a2, ↓zt_a3, ↓zt_a4, ↓zt_a5, ↓zt_a6, ↓zt_a7, ↓zt_a8, ↓zt_a9, ↓zt_a10, ↓zt_a11, ↓zt_a12, ↓zt_a13, ↓zt_a14, ↓zt_a15, ↓zt_a16, ↓zt_a17, ↓zt_a18, ↓zt_a19, ↓zt_a20, ↓zt_a21, ↓zt_l19, ↓zt_l17, forall_eq, ↓zqI_r, ↓zqL_r, ↓zqD_r, ↓zqF_r, ↓zqV_r, ↓zqR_r, ↓zqR_s, zboolb, zbool0, zbool1, true_and, and_true, ↓zl_156, ↓zl_159, ↓zl_165, ↓zl_166, ↓zl_167, ↓zl_179, ↓zl_181, ↓zl_184, ↓zl_188, ↓zl_189, ↓zl_190, ↓zl_191, ↓zl_192, ↓zl_203, ↓zl_216, ↓zl_226, zJ]
    rw [zl_shl hM hV]
    refine ⟨fun hle => absurd hle (nI_ge hq (by omega)), fun _ => zt_160 hM hV (by omega) ?_⟩
    have hw := zs_w_b hV (f := 0) (by omega) q
    have e : iI (zs_cap V - zs_w V 0 q) < 0 ↔ ¬ zs_w V 0 q ≤ zs_cap V := by
      show _ < iI 0 ↔ _
      rw [iI_lt (by omega) (by omega) (by omega) (by omega)]
      omega
    simp only [↓zt_rc, ↓zt_g0, ↓zt_g1, ↓zt_g2, ↓zt_g3, ↓zt_g4, ↓zt_g5, ↓zt_g6, ↓zt_g7, ↓zt_g8, ↓zt_g9, ↓zt_g10, ↓zt_g11, ↓zt_g12, ↓zt_g13, ↓zt_g14, ↓zt_g15, ↓zt_g16, ↓zt_g17, ↓zt_g18, ↓zt_g19, ↓zt_g20, ↓zt_g21, ↓zt_g22, ↓zt_g23, ↓zt_g24, ↓zt_g25, ↓zt_g26, ↓zt_g27, ↓zt_g28, ↓zt_g29, ↓zt_g30, ↓zt_g31, ↓zt_g32, ↓zt_g33, ↓zt_g34, ↓zt_g35, ↓zt_g36, ↓zt_g37, ↓zt_g38, ↓zt_g39, ↓zt_g40, ↓zt_a1, ↓zt_a2, ↓zt_a3, ↓zt_a4, ↓zt_a5, ↓zt_a6, ↓zt_a7, ↓zt_a8, ↓zt_a9, ↓zt_a10, ↓zt_a11, ↓zt_a12, ↓zt_a13, ↓zt_a14, ↓zt_a15, ↓zt_a16, ↓zt_a17, ↓zt_a18, ↓zt_a19, ↓zt_a20, ↓zt_a21, ↓zt_l19, ↓zt_l17, forall_eq, ↓zqI_r, ↓zqL_r, ↓zqD_r, ↓zqF_r, ↓zqV_r, ↓zqR_r, ↓zqR_s, zboolb, zbool0, zbool1, true_and, and_true, e, Classical.not_not]
    refine ⟨fun h1 => hrec _ _ ⟨rfl, ?_⟩, fun h1 => hrec _ _ ⟨rfl, ?_⟩⟩
    · simp only [zs_ct, if_neg h1]
      show nI _ + nI 0 = _
      rw [nI_add]
    · simp only [zs_ct, if_pos h1]
      show nI _ + nI 1 = _
      rw [nI_add]
  · rintro rec x s' ⟨rfl, rfl⟩
    simp only [↓zt_rc, ↓zt_g0, ↓zt_g1, ↓zt_g2, ↓zt_g3, ↓zt_g4, ↓zt_g5, ↓zt_g6, ↓zt_g7, ↓zt_g8, ↓zt_g9, ↓zt_g10, ↓zt_g11, ↓zt_g12, ↓zt_g13, ↓zt_g14, ↓zt_g15, ↓zt_g16, ↓zt_g17, ↓zt_g18, ↓zt_g19, ↓zt_g20, ↓zt_g21, ↓zt_g22, ↓zt_g23, ↓zt_g24, ↓zt_g25, ↓zt_g26, ↓zt_g27, ↓zt_g28, ↓zt_g29, ↓zt_g30, ↓zt_g31, ↓zt_g32, ↓zt_g33, ↓zt_g34, ↓zt_g35, ↓zt_g36, ↓zt_g37, ↓zt_g38, ↓zt_g39, ↓zt_g40, ↓zt_a1, ↓zt_a2, ↓zt_a3, ↓zt_a4, ↓zt_a5, ↓zt_a6, ↓zt_a7, ↓zt_a8, ↓zt_a9, ↓zt_a10, ↓zt_a11, ↓zt_a12, ↓zt_a13, ↓zt_a14, ↓zt_a15, ↓zt_a16, ↓zt_a17, ↓zt_a18, ↓zt_a19, ↓zt_a20, ↓zt_a21, ↓zt_l19, ↓zt_l17, forall_eq, ↓zqI_r, ↓zqL_r, ↓zqD_r, ↓zqF_r, ↓zqV_r, ↓zqR_r, ↓zqR_s, zboolb, zbool0, zbool1, true_and, and_true, ↓zl_156, ↓zl_159, ↓zl_165, ↓zl_166, ↓zl_167, ↓zl_179, ↓zl_181, ↓zl_184, ↓zl_188, ↓zl_189, ↓zl_190, ↓zl_191, ↓zl_192, ↓zl_203, ↓zl_216, ↓zl_226]
    rw [zl_shl hM hV]
    exact ⟨fun _ => h, fun hn => absurd (nI_le (Nat.le_refl _) (by omega)) hn⟩
theorem zt_177 (hm : G.1 ≤ m) (hM : M.2.2.1 1 = V) (hV : zs_ok V) (h : ∀ M', zt_kp 5 9 M M' → zt_ly V M' (zs_all V) → zt_lr V true (zs_thr V) M' (zs_all V) → Q none (zt_S σ m N M')) : zCall G (n + 5) 177 [.ref m] Q Y (zt_S σ m N M) := by
  refine ze177 ⟨_, rfl, ?_⟩
  have hc := hV.c2
  simp only [↓zt_rc, ↓zt_g0, ↓zt_g1, ↓zt_g2, ↓zt_g3, ↓zt_g4, ↓zt_g5, ↓zt_g6, ↓zt_g7, ↓zt_g8, ↓zt_g9, ↓zt_g10, ↓zt_g11, ↓zt_g12, ↓zt_g13, ↓zt_g14, ↓zt_g15, ↓zt_g16, ↓zt_g17, ↓zt_g18, ↓zt_g19, ↓zt_g20, ↓zt_g21, ↓zt_g22, ↓zt_g23, ↓zt_g24, ↓zt_g25, ↓zt_g26, ↓zt_g27, ↓zt_g28, ↓zt_g29, ↓zt_g30, ↓zt_g31, ↓zt_g32, ↓zt_g33, ↓zt_g34, ↓zt_g35, ↓zt_g36, ↓zt_g37, ↓zt_g38, ↓zt_g39, ↓zt_g40, ↓zt_p4 hm, ↓zt_p5 hm, ↓zt_p6 hm, ↓zt_p15 hm, ↓zt_p21 hm, ↓zt_p22 hm, ↓zt_p23 hm, ↓zt_p26 hm, ↓zt_p28 hm, ↓zt_p29 hm, ↓zt_p30 hm, ↓zt_p31 hm, ↓zt_p32 hm, ↓zt_p33 hm, ↓zt_p34 hm, ↓zt_p35 hm, ↓zt_p36 hm, ↓zt_p40 hm, ↓zt_p19 hm, ↓zt_p20 hm, ↓zt_a1, ↓zt_a2, ↓zt_a3, ↓zt_a4, ↓zt_a5, ↓zt_a6, ↓zt_a7, ↓zt_a8, ↓zt_a9, ↓zt_a10, ↓zt_a11, ↓zt_a12, ↓zt_a13, ↓zt_a14, ↓zt_a15, ↓zt_a16, ↓zt_a17, ↓zt_a18, ↓zt_a19, ↓zt_a20, ↓zt_a21, ↓zt_s1 hm, ↓zt_s2 hm, ↓zt_s3 hm, ↓zt_s4 hm, ↓zt_s5 hm, ↓zt_s6 hm, ↓zt_s7 hm, ↓zt_s8 hm, ↓zt_s9 hm, ↓zt_s10 hm, ↓zt_s11 hm, ↓zt_s12 hm, ↓zt_s16 hm, ↓zt_s17 hm, ↓zt_s18 hm, ↓zt_s20 hm, ↓zt_s13 hm, ↓zt_s14 hm, ↓zt_s15 hm, ↓zt_s21 hm, ↓zt_l19, ↓zt_l17, forall_eq, ↓zqI_r, ↓zqL_r, ↓zqD_r, ↓zqF_r, ↓zqV_r, ↓zqR_r, ↓zqR_s, zboolb, zbool0, zbool1, true_and, and_true, zi_0, zj_0, zi_1, zj_1, zi_2, zj_2, zi_3, zj_3, zi_4, zj_4, zi_5, zj_5, zi_6, zj_6, zi_7, zj_7, zi_8, zj_8, zi_9, zj_9, zi_10, zj_10, true_and, and_true, hM]
  refine zt_178 (g := true) hm hM hV (x := V 2) (by unfold zs_thr at hc; omega) (fun M' h1 h2 h3 => ?_)
  simp only [forall_eq, ↓zqI_r, ↓zqL_r, ↓zqD_r, ↓zqF_r, ↓zqV_r, ↓zqR_r, ↓zqR_s]
  exact h M' h1 h2 h3
theorem zt_170 (hm : G.1 ≤ m) (hM : M.2.2.1 1 = V) (hV : zs_ok V) {x : Int32} (h1 : zs_isp V x → ∀ M', zt_pe 0 M M' → Q (some (.int (nI (zs_rep V true (zs_thr V) x.toNatClampNeg)))) (zt_S σ m N M')) (h0 : ¬ zs_isp V x → ∀ M', zt_pe 1 M M' → Q (some (.int 0)) (zt_S σ m N M')) : zCall G (n + 6) 170 [.ref m, .int x] Q Y (zt_S σ m N M) := by
  have hA := hV.all
  have hc := hV.c2
  refine ze170 ⟨_, _, rfl, ?_⟩
  simp only [↓zt_rc, ↓zt_g0, ↓zt_g1, ↓zt_g2, ↓zt_g3, ↓zt_g4, ↓zt_g5, ↓zt_g6, ↓zt_g7, ↓zt_g8, ↓zt_g9, ↓zt_g10, ↓zt_g11, ↓zt_g12, ↓zt_g13, ↓zt_g14, ↓zt_g15, ↓zt_g16, ↓zt_g17, ↓zt_g18, ↓zt_g19, ↓zt_g20, ↓zt_g21, ↓zt_g22, ↓zt_g23, ↓zt_g24, ↓zt_g25, ↓zt_g26, ↓zt_g27, ↓zt_g28, ↓zt_g29, ↓zt_g30, ↓zt_g31, ↓zt_g32, ↓zt_g33, ↓zt_g34, ↓zt_g35, ↓zt_g36, ↓zt_g37, ↓zt_g38, ↓zt_g39, ↓zt_g40, ↓zt_p4 hm, ↓zt_p5 hm, ↓zt_p6 hm, ↓zt_p15 hm, ↓zt_p21 hm, ↓zt_p22 hm, ↓zt_p23 hm, ↓zt_p26 hm, ↓zt_p28 hm, ↓zt_p29 hm, ↓zt_p30 hm, ↓zt_p31 hm, ↓zt_p32 hm, ↓zt_p33 hm, ↓zt_p34 hm, ↓zt_p35 hm, ↓zt_p36 hm, ↓zt_p40 hm, ↓zt_p19 hm, ↓zt_p20 hm, ↓zt_a1, ↓zt_a2, ↓zt_a3, ↓zt_a4, ↓zt_a5, ↓zt_a6, ↓zt_a7, ↓zt_a8, ↓zt_a9, ↓zt_a10, ↓zt_a11, ↓zt_a12, ↓zt_a13, ↓zt_a14, ↓zt_a15, ↓zt_a16, ↓zt_a17, ↓zt_a18, ↓zt_a19, ↓zt_a20, ↓zt_a21, ↓zt_s1 hm, ↓zt_s2 hm, ↓zt_s3 hm, ↓zt_s4 hm, ↓zt_s5 hm, ↓zt_s6 hm, ↓zt_s7 hm, ↓zt_s8 hm, ↓zt_s9 hm, ↓zt_s10 hm, ↓zt_s11 hm, ↓zt_s12 hm, ↓zt_s16 hm, ↓zt_s17 hm, ↓zt_s18 hm, ↓zt_s20 hm, ↓zt_s13 hm, ↓zt_s14 hm, ↓zt_s15 hm, ↓zt_s21 hm, ↓zt_l19, ↓zt_l17, forall_eq, ↓zqI_r, ↓zqL_r, ↓zqD_r, ↓zqF_r, ↓zqV_r, ↓zqR_r, ↓zqR_s, zboolb, zbool0, zbool1, true_and, and_true]
  refine zt_171 (by exact hM) hV (fun hi => ?_) (fun hi => ?_)
  · simp only [↓zt_rc, ↓zt_g0, ↓zt_g1, ↓zt_g2, ↓zt_g3, ↓zt_g4, ↓zt_g5, ↓zt_g6, ↓zt_g7, ↓zt_g8, ↓zt_g9, ↓zt_g10, ↓zt_g11, ↓zt_g12, ↓zt_g13, ↓zt_g14, ↓zt_g15, ↓zt_g16, ↓zt_g17, ↓zt_g18, ↓zt_g19, ↓zt_g20, ↓zt_g21, ↓zt_g22, ↓zt_g23, ↓zt_g24, ↓zt_g25, ↓zt_g26, ↓zt_g27, ↓zt_g28, ↓zt_g29, ↓zt_g30, ↓zt_g31, ↓zt_g32, ↓zt_g33, ↓zt_g34, ↓zt_g35, ↓zt_g36, ↓zt_g37, ↓zt_g38, ↓zt_g39, ↓zt_g40, ↓zt_p4 hm, ↓zt_p5 hm, ↓zt_p6 hm, ↓zt_p15 hm, ↓zt_p21 hm, ↓zt_p22 hm, ↓zt_p23 hm, ↓zt_p26 hm, ↓zt_p28 hm, ↓zt_p29 hm, ↓zt_p30 hm, ↓zt_p31 hm, ↓zt_p32 hm, ↓zt_p33 hm, ↓zt_p34 hm, ↓zt_p35 hm, ↓zt_p36 hm, ↓zt_p40 hm, ↓zt_p19 hm, ↓zt_p20 hm, ↓zt_a1, ↓zt_a2, ↓zt_a3, ↓zt_a4, ↓zt_a5, ↓zt_a6, ↓zt_a7, ↓zt_a8, ↓zt_a9, ↓zt_a10, ↓zt_a11, ↓zt_a12, ↓zt_a13, ↓zt_a14, ↓zt_a15, ↓zt_a16, ↓zt_a17, ↓zt_a18, ↓zt_a19, ↓zt_a20, ↓zt_a21, ↓zt_s1 hm, ↓zt_s2 hm, ↓zt_s3 hm, ↓zt_s4 hm, ↓zt_s5 hm, ↓zt_s6 hm, ↓zt_s7 hm, ↓zt_s8 hm, ↓zt_s9 hm, ↓zt_s10 hm, ↓zt_s11 hm, ↓zt_s12 hm, ↓zt_s16 hm, ↓zt_s17 hm, ↓zt_s18 hm, ↓zt_s20 hm, ↓zt_s13 hm, ↓zt_s14 hm, ↓zt_s15 hm, ↓zt_s21 hm, ↓zt_l19, ↓zt_l17, forall_eq, ↓zqI_r, ↓zqL_r, ↓zqD_r, ↓zqF_r, ↓zqV_r, ↓zqR_r, ↓zqR_s, zboolb, zbool0, zbool1, true_and, and_true]
    refine ⟨fun _ => ?_, fun h9 => absurd h9 (by decide)⟩
    refine zt_172 hm (by exact hM) hV (fun M' hk hl => ?_)
    have e1 : M'.2.2.1 1 = V := (hk.2.2.2 1 (by omega)).trans hM
    simp only [↓zt_rc, ↓zt_g0, ↓zt_g1, ↓zt_g2, ↓zt_g3, ↓zt_g4, ↓zt_g5, ↓zt_g6, ↓zt_g7, ↓zt_g8, ↓zt_g9, ↓zt_g10, ↓zt_g11, ↓zt_g12, ↓zt_g13, ↓zt_g14, ↓zt_g15, ↓zt_g16, ↓zt_g17, ↓zt_g18, ↓zt_g19, ↓zt_g20, ↓zt_g21, ↓zt_g22, ↓zt_g23, ↓zt_g24, ↓zt_g25, ↓zt_g26, ↓zt_g27, ↓zt_g28, ↓zt_g29, ↓zt_g30, ↓zt_g31, ↓zt_g32, ↓zt_g33, ↓zt_g34, ↓zt_g35, ↓zt_g36, ↓zt_g37, ↓zt_g38, ↓zt_g39, ↓zt_g40, ↓zt_p4 hm, ↓zt_p5 hm, ↓zt_p6 hm, ↓zt_p15 hm, ↓zt_p21 hm, ↓zt_p22 hm, ↓zt_p23 hm, ↓zt_p26 hm, ↓zt_p28 hm, ↓zt_p29 hm, ↓zt_p30 hm, ↓zt_p31 hm, ↓zt_p32 hm, ↓zt_p33 hm, ↓zt_p34 hm, ↓zt_p35 hm, ↓zt_p36 hm, ↓zt_p40 hm, ↓zt_p19 hm, ↓zt_p20 hm, ↓zt_a1, ↓zt_a2, ↓zt_a3, ↓zt_a4, ↓zt_a5, ↓zt_a6, ↓zt_a7, ↓zt_a8, ↓zt_a9, ↓zt_a10, ↓zt_a11, ↓zt_a12, ↓zt_a13, ↓zt_a14, ↓zt_a15, ↓zt_a16, ↓zt_a17, ↓zt_a18, ↓zt_a19, ↓zt_a20, ↓zt_a21, ↓zt_s1 hm, ↓zt_s2 hm, ↓zt_s3 hm, ↓zt_s4 hm, ↓zt_s5 hm, ↓zt_s6 hm, ↓zt_s7 hm, ↓zt_s8 hm, ↓zt_s9 hm, ↓zt_s10 hm, ↓zt_s11 hm, ↓zt_s12 hm, ↓zt_s16 hm, ↓zt_s17 hm, ↓zt_s18 hm, ↓zt_s20 hm, ↓zt_s13 hm, ↓zt_s14 hm, ↓zt_s15 hm, ↓zt_s21 hm, ↓zt_l19, ↓zt_l17, forall_eq, ↓zqI_r, ↓zqL_r, ↓zqD_r, ↓zqF_r, ↓zqV_r, ↓zqR_r, ↓zqR_s, zboolb, zbool0, zbool1, true_and, and_true, zi_0, zj_0, zi_1, zj_1, zi_2, zj_2, zi_3, zj_3, zi_4, zj_4, zi_5, zj_5, zi_6, zj_6, zi_7, zj_7, zi_8, zj_8, zi_9, zj_9, zi_10, zj_10, true_and, and_true, e1]
    obtain ⟨s, hs, rfl⟩ : ∃ s : Nat, s < zs_all V ∧ x = nI s := by
      obtain ⟨s, hs, e⟩ := nI_of (x := x) (by rw [fa_lt]; have := hi.1; have : (0 : Int32).toInt = 0 := rfl; omega)
      have h2 := hi.2.1
      rw [e, nI_toInt hs] at h2
      exact ⟨s, by omega, e⟩
    rw [nI_cl (by omega)] at h1
    refine zt_173 (g := true) e1 hV hl hs (x := V 2) (by unfold zs_thr at hc; omega) ?_
    simp only [forall_eq, ↓zqI_r, ↓zqL_r, ↓zqD_r, ↓zqF_r, ↓zqV_r, ↓zqR_r, ↓zqR_s]
    exact h1 hi M' ((zt_pe.thr).kp hk (by omega) (by omega))
  · simp only [↓zt_rc, ↓zt_g0, ↓zt_g1, ↓zt_g2, ↓zt_g3, ↓zt_g4, ↓zt_g5, ↓zt_g6, ↓zt_g7, ↓zt_g8, ↓zt_g9, ↓zt_g10, ↓zt_g11, ↓zt_g12, ↓zt_g13, ↓zt_g14, ↓zt_g15, ↓zt_g16, ↓zt_g17, ↓zt_g18, ↓zt_g19, ↓zt_g20, ↓zt_g21, ↓zt_g22, ↓zt_g23, ↓zt_g24, ↓zt_g25, ↓zt_g26, ↓zt_g27, ↓zt_g28, ↓zt_g29, ↓zt_g30, ↓zt_g31, ↓zt_g32, ↓zt_g33, ↓zt_g34, ↓zt_g35, ↓zt_g36, ↓zt_g37, ↓zt_g38, ↓zt_g39, ↓zt_g40, ↓zt_p4 hm, ↓zt_p5 hm, ↓zt_p6 hm, ↓zt_p15 hm, ↓zt_p21 hm, ↓zt_p22 hm, ↓zt_p23 hm, ↓zt_p26 hm, ↓zt_p28 hm, ↓zt_p29 hm, ↓zt_p30 hm, ↓zt_p31 hm, ↓zt_p32 hm, ↓zt_p33 hm, ↓zt_p34 hm, ↓zt_p35 hm, ↓zt_p36 hm, ↓zt_p40 hm, ↓zt_p19 hm, ↓zt_p20 hm, ↓zt_a1, ↓zt_a2, ↓zt_a3, ↓zt_a4, ↓zt_a5, ↓zt_a6, ↓zt_a7, ↓zt_a8, ↓zt_a9, ↓zt_a10, ↓zt_a11, ↓zt_a12, ↓zt_a13, ↓zt_a14, ↓zt_a15, ↓zt_a16, ↓zt_a17, ↓zt_a18, ↓zt_a19, ↓zt_a20, ↓zt_a21, ↓zt_s1 hm, ↓zt_s2 hm, ↓zt_s3 hm, ↓zt_s4 hm, ↓zt_s5 hm, ↓zt_s6 hm, ↓zt_s7 hm, ↓zt_s8 hm, ↓zt_s9 hm, ↓zt_s10 hm, ↓zt_s11 hm, ↓zt_s12 hm, ↓zt_s16 hm, ↓zt_s17 hm, ↓zt_s18 hm, ↓zt_s20 hm, ↓zt_s13 hm, ↓zt_s14 hm, ↓zt_s15 hm, ↓zt_s21 hm, ↓zt_l19, ↓zt_l17, forall_eq, ↓zqI_r, ↓zqL_r, ↓zqD_r, ↓zqF_r, ↓zqV_r, ↓zqR_r, ↓zqR_s, zboolb, zbool0, zbool1, true_and, and_true, ↓zl_156, ↓zl_159, ↓zl_163 hm, ↓zl_165, ↓zl_166, ↓zl_167, ↓zl_179, ↓zl_181, ↓zl_184, ↓zl_188, ↓zl_189, ↓zl_190, ↓zl_191, ↓zl_192, ↓zl_203, ↓zl_216, ↓zl_226, ↓zl_255 hm]
    refine ⟨fun h9 => absurd trivial h9, fun _ => ?_⟩
    exact h0 hi _ (zt_pe.re zt_pe.thr)
theorem zt_175 (hm : G.1 ≤ m) (hM : M.2.2.1 1 = V) (hV : zs_ok V) {x : Int32} (h1 : zs_isp V x → ∀ M', zt_pe 0 M M' → Q (some (.int (iI (zs_res V true (zs_thr V) x.toNatClampNeg)))) (zt_S σ m N M')) (h0 : ¬ zs_isp V x → ∀ M', zt_pe 1 M M' → Q (some (.int 0)) (zt_S σ m N M')) : zCall G (n + 6) 175 [.ref m, .int x] Q Y (zt_S σ m N M) := by
  have hA := hV.all
  have hc := hV.c2
  refine ze175 ⟨_, _, rfl, ?_⟩
  simp only [↓zt_rc, ↓zt_g0, ↓zt_g1, ↓zt_g2, ↓zt_g3, ↓zt_g4, ↓zt_g5, ↓zt_g6, ↓zt_g7, ↓zt_g8, ↓zt_g9, ↓zt_g10, ↓zt_g11, ↓zt_g12, ↓zt_g13, ↓zt_g14, ↓zt_g15, ↓zt_g16, ↓zt_g17, ↓zt_g18, ↓zt_g19, ↓zt_g20, ↓zt_g21, ↓zt_g22, ↓zt_g23, ↓zt_g24, ↓zt_g25, ↓zt_g26, ↓zt_g27, ↓zt_g28, ↓zt_g29, ↓zt_g30, ↓zt_g31, ↓zt_g32, ↓zt_g33, ↓zt_g34, ↓zt_g35, ↓zt_g36, ↓zt_g37, ↓zt_g38, ↓zt_g39, ↓zt_g40, ↓zt_p4 hm, ↓zt_p5 hm, ↓zt_p6 hm, ↓zt_p15 hm, ↓zt_p21 hm, ↓zt_p22 hm, ↓zt_p23 hm, ↓zt_p26 hm, ↓zt_p28 hm, ↓zt_p29 hm, ↓zt_p30 hm, ↓zt_p31 hm, ↓zt_p32 hm, ↓zt_p33 hm, ↓zt_p34 hm, ↓zt_p35 hm, ↓zt_p36 hm, ↓zt_p40 hm, ↓zt_p19 hm, ↓zt_p20 hm, ↓zt_a1, ↓zt_a2, ↓zt_a3, ↓zt_a4, ↓zt_a5, ↓zt_a6, ↓zt_a7, ↓zt_a8, ↓zt_a9, ↓zt_a10, ↓zt_a11, ↓zt_a12, ↓zt_a13, ↓zt_a14, ↓zt_a15, ↓zt_a16, ↓zt_a17, ↓zt_a18, ↓zt_a19, ↓zt_a20, ↓zt_a21, ↓zt_s1 hm, ↓zt_s2 hm, ↓zt_s3 hm, ↓zt_s4 hm, ↓zt_s5 hm, ↓zt_s6 hm, ↓zt_s7 hm, ↓zt_s8 hm, ↓zt_s9 hm, ↓zt_s10 hm, ↓zt_s11 hm, ↓zt_s12 hm, ↓zt_s16 hm, ↓zt_s17 hm, ↓zt_s18 hm, ↓zt_s20 hm, ↓zt_s13 hm, ↓zt_s14 hm, ↓zt_s15 hm, ↓zt_s21 hm, ↓zt_l19, ↓zt_l17, forall_eq, ↓zqI_r, ↓zqL_r, ↓zqD_r, ↓zqF_r, ↓zqV_r, ↓zqR_r, ↓zqR_s, zboolb, zbool0, zbool1, true_and, and_true]
  refine zt_171 (by exact hM) hV (fun hi => ?_) (fun hi => ?_)
  · simp only [↓zt_rc, ↓zt_g0, ↓zt_g1, ↓zt_g2, ↓zt_g3, ↓zt_g4, ↓zt_g5, ↓zt_g6, ↓zt_g7, ↓zt_g8, ↓zt_g9, ↓zt_g10, ↓zt_g11, ↓zt_g12, ↓zt_g13, ↓zt_g14, ↓zt_g15, ↓zt_g16, ↓zt_g17, ↓zt_g18, ↓zt_g19, ↓zt_g20, ↓zt_g21, ↓zt_g22, ↓zt_g23, ↓zt_g24, ↓zt_g25, ↓zt_g26, ↓zt_g27, ↓zt_g28, ↓zt_g29, ↓zt_g30, ↓zt_g31, ↓zt_g32, ↓zt_g33, ↓zt_g34, ↓zt_g35, ↓zt_g36, ↓zt_g37, ↓zt_g38, ↓zt_g39, ↓zt_g40, ↓zt_p4 hm, ↓zt_p5 hm, ↓zt_p6 hm, ↓zt_p15 hm, ↓zt_p21 hm, ↓zt_p22 hm, ↓zt_p23 hm, ↓zt_p26 hm, ↓zt_p28 hm, ↓zt_p29 hm, ↓zt_p30 hm, ↓zt_p31 hm, ↓zt_p32 hm, ↓zt_p33 hm, ↓zt_p34 hm, ↓zt_p35 hm, ↓zt_p36 hm, ↓zt_p40 hm, ↓zt_p19 hm, ↓zt_p20 hm, ↓zt_a1, ↓zt_a2, ↓zt_a3, ↓zt_a4, ↓zt_a5, ↓zt_a6, ↓zt_a7, ↓zt_a8, ↓zt_a9, ↓zt_a10, ↓zt_a11, ↓zt_a12, ↓zt_a13, ↓zt_a14, ↓zt_a15, ↓zt_a16, ↓zt_a17, ↓zt_a18, ↓zt_a19, ↓zt_a20, ↓zt_a21, ↓zt_s1 hm, ↓zt_s2 hm, ↓zt_s3 hm, ↓zt_s4 hm, ↓zt_s5 hm, ↓zt_s6 hm, ↓zt_s7 hm, ↓zt_s8 hm, ↓zt_s9 hm, ↓zt_s10 hm, ↓zt_s11 hm, ↓zt_s12 hm, ↓zt_s16 hm, ↓zt_s17 hm, ↓zt_s18 hm, ↓zt_s20 hm, ↓zt_s13 hm, ↓zt_s14 hm, ↓zt_s15 hm, ↓zt_s21 hm, ↓zt_l19, ↓zt_l17, forall_eq, ↓zqI_r, ↓zqL_r, ↓zqD_r, ↓zqF_r, ↓zqV_r, ↓zqR_r, ↓zqR_s, zboolb, zbool0, zbool1, true_and, and_true]
    refine ⟨fun _ => ?_, fun h9 => absurd h9 (by decide)⟩
    refine zt_172 hm (by exact hM) hV (fun M' hk hl => ?_)
    have e1 : M'.2.2.1 1 = V := (hk.2.2.2 1 (by omega)).trans hM
    obtain ⟨s, hs, rfl⟩ : ∃ s : Nat, s < zs_all V ∧ x = nI s := by
      obtain ⟨s, hs, e⟩ := nI_of (x := x) (by rw [fa_lt]; have := hi.1; have : (0 : Int32).toInt = 0 := rfl; omega)
      have h2 := hi.2.1
      rw [e, nI_toInt hs] at h2
      exact ⟨s, by omega, e⟩
    have h6 : M'.2.2.1 6 s = iI (zs_w V 1 s) := hl 1 (by omega) s hs
    have h8 : M'.2.2.1 8 (zs_rep V true (zs_thr V) s) = iI (zs_w V 3 (zs_rep V true (zs_thr V) s)) := hl 3 (by omega) _ (zs_rep_lt hV)
    have hrl := zs_rep_lt hV (g := true) (t := zs_thr V) (p := s)
    simp only [↓zt_rc, ↓zt_g0, ↓zt_g1, ↓zt_g2, ↓zt_g3, ↓zt_g4, ↓zt_g5, ↓zt_g6, ↓zt_g7, ↓zt_g8, ↓zt_g9, ↓zt_g10, ↓zt_g11, ↓zt_g12, ↓zt_g13, ↓zt_g14, ↓zt_g15, ↓zt_g16, ↓zt_g17, ↓zt_g18, ↓zt_g19, ↓zt_g20, ↓zt_g21, ↓zt_g22, ↓zt_g23, ↓zt_g24, ↓zt_g25, ↓zt_g26, ↓zt_g27, ↓zt_g28, ↓zt_g29, ↓zt_g30, ↓zt_g31, ↓zt_g32, ↓zt_g33, ↓zt_g34, ↓zt_g35, ↓zt_g36, ↓zt_g37, ↓zt_g38, ↓zt_g39, ↓zt_g40, ↓zt_p4 hm, ↓zt_p5 hm, ↓zt_p6 hm, ↓zt_p15 hm, ↓zt_p21 hm, ↓zt_p22 hm, ↓zt_p23 hm, ↓zt_p26 hm, ↓zt_p28 hm, ↓zt_p29 hm, ↓zt_p30 hm, ↓zt_p31 hm, ↓zt_p32 hm, ↓zt_p33 hm, ↓zt_p34 hm, ↓zt_p35 hm, ↓zt_p36 hm, ↓zt_p40 hm, ↓zt_p19 hm, ↓zt_p20 hm, ↓zt_a1, ↓zt_a2, ↓zt_a3, ↓zt_a4, ↓zt_a5, ↓zt_a6, ↓zt_a7, ↓zt_a8, ↓zt_a9, ↓zt_a10, ↓zt_a11, ↓zt_a12, ↓zt_a13, ↓zt_a14, ↓zt_a15, ↓zt_a16, ↓zt_a17, ↓zt_a18, ↓zt_a19, ↓zt_a20, ↓zt_a21, ↓zt_s1 hm, ↓zt_s2 hm, ↓zt_s3 hm, ↓zt_s4 hm, ↓zt_s5 hm, ↓zt_s6 hm, ↓zt_s7 hm, ↓zt_s8 hm, ↓zt_s9 hm, ↓zt_s10 hm, ↓zt_s11 hm, ↓zt_s12 hm, ↓zt_s16 hm, ↓zt_s17 hm, ↓zt_s18 hm, ↓zt_s20 hm, ↓zt_s13 hm, ↓zt_s14 hm, ↓zt_s15 hm, ↓zt_s21 hm, ↓zt_l19, ↓zt_l17, forall_eq, ↓zqI_r, ↓zqL_r, ↓zqD_r, ↓zqF_r, ↓zqV_r, ↓zqR_r, ↓zqR_s, zboolb, zbool0, zbool1, true_and, and_true, zi_0, zj_0, zi_1, zj_1, zi_2, zj_2, zi_3, zj_3, zi_4, zj_4, zi_5, zj_5, zi_6, zj_6, zi_7, zj_7, zi_8, zj_8, zi_9, zj_9, zi_10, zj_10, true_and, and_true, e1, nI_cl (show s < 2147483648 by omega), h6]
    rw [nI_cl (by omega)] at h1
    refine ⟨nI_i (by omega) (by omega), ?_⟩
    refine zt_173 (g := true) e1 hV hl hs (x := V 2) (by unfold zs_thr at hc; omega) ?_
    rw [show (V 2).toInt = zs_thr V from rfl]
    simp only [↓zt_rc, ↓zt_g0, ↓zt_g1, ↓zt_g2, ↓zt_g3, ↓zt_g4, ↓zt_g5, ↓zt_g6, ↓zt_g7, ↓zt_g8, ↓zt_g9, ↓zt_g10, ↓zt_g11, ↓zt_g12, ↓zt_g13, ↓zt_g14, ↓zt_g15, ↓zt_g16, ↓zt_g17, ↓zt_g18, ↓zt_g19, ↓zt_g20, ↓zt_g21, ↓zt_g22, ↓zt_g23, ↓zt_g24, ↓zt_g25, ↓zt_g26, ↓zt_g27, ↓zt_g28, ↓zt_g29, ↓zt_g30, ↓zt_g31, ↓zt_g32, ↓zt_g33, ↓zt_g34, ↓zt_g35, ↓zt_g36, ↓zt_g37, ↓zt_g38, ↓zt_g39, ↓zt_g40, ↓zt_p4 hm, ↓zt_p5 hm, ↓zt_p6 hm, ↓zt_p15 hm, ↓zt_p21 hm, ↓zt_p22 hm, ↓zt_p23 hm, ↓zt_p26 hm, ↓zt_p28 hm, ↓zt_p29 hm, ↓zt_p30 hm, ↓zt_p31 hm, ↓zt_p32 hm, ↓zt_p33 hm, ↓zt_p34 hm, ↓zt_p35 hm, ↓zt_p36 hm, ↓zt_p40 hm, ↓zt_p19 hm, ↓zt_p20 hm, ↓zt_a1, ↓zt_a2, ↓zt_a3, ↓zt_a4, ↓zt_a5, ↓zt_a6, ↓zt_a7, ↓zt_a8, ↓zt_a9, ↓zt_a10, ↓zt_a11, ↓zt_a12, ↓zt_a13, ↓zt_a14, ↓zt_a15, ↓zt_a16, ↓zt_a17, ↓zt_a18, ↓zt_a19, ↓zt_a20, ↓zt_a21, ↓zt_s1 hm, ↓zt_s2 hm, ↓zt_s3 hm, ↓zt_s4 hm, ↓zt_s5 hm, ↓zt_s6 hm, ↓zt_s7 hm, ↓zt_s8 hm, ↓zt_s9 hm, ↓zt_s10 hm, ↓zt_s11 hm, ↓zt_s12 hm, ↓zt_s16 hm, ↓zt_s17 hm, ↓zt_s18 hm, ↓zt_s20 hm, ↓zt_s13 hm, ↓zt_s14 hm, ↓zt_s15 hm, ↓zt_s21 hm, ↓zt_l19, ↓zt_l17, forall_eq, ↓zqI_r, ↓zqL_r, ↓zqD_r, ↓zqF_r, ↓zqV_r, ↓zqR_r, ↓zqR_s, zboolb, zbool0, zbool1, true_and, and_true, nI_cl (show zs_rep V true (zs_thr V) s < 2147483648 by omega), h8, iI_sub]
    exact ⟨nI_i (by omega) (by omega), h1 hi M' ((zt_pe.thr).kp hk (by omega) (by omega))⟩
  · simp only [↓zt_rc, ↓zt_g0, ↓zt_g1, ↓zt_g2, ↓zt_g3, ↓zt_g4, ↓zt_g5, ↓zt_g6, ↓zt_g7, ↓zt_g8, ↓zt_g9, ↓zt_g10, ↓zt_g11, ↓zt_g12, ↓zt_g13, ↓zt_g14, ↓zt_g15, ↓zt_g16, ↓zt_g17, ↓zt_g18, ↓zt_g19, ↓zt_g20, ↓zt_g21, ↓zt_g22, ↓zt_g23, ↓zt_g24, ↓zt_g25, ↓zt_g26, ↓zt_g27, ↓zt_g28, ↓zt_g29, ↓zt_g30, ↓zt_g31, ↓zt_g32, ↓zt_g33, ↓zt_g34, ↓zt_g35, ↓zt_g36, ↓zt_g37, ↓zt_g38, ↓zt_g39, ↓zt_g40, ↓zt_p4 hm, ↓zt_p5 hm, ↓zt_p6 hm, ↓zt_p15 hm, ↓zt_p21 hm, ↓zt_p22 hm, ↓zt_p23 hm, ↓zt_p26 hm, ↓zt_p28 hm, ↓zt_p29 hm, ↓zt_p30 hm, ↓zt_p31 hm, ↓zt_p32 hm, ↓zt_p33 hm, ↓zt_p34 hm, ↓zt_p35 hm, ↓zt_p36 hm, ↓zt_p40 hm, ↓zt_p19 hm, ↓zt_p20 hm, ↓zt_a1, ↓zt_a2, ↓zt_a3, ↓zt_a4, ↓zt_a5, ↓zt_a6, ↓zt_a7, ↓zt_a8, ↓zt_a9, ↓zt_a10, ↓zt_a11, ↓zt_a12, ↓zt_a13, ↓zt_a14, ↓zt_a15, ↓zt_a16, ↓zt_a17, ↓zt_a18, ↓zt_a19, ↓zt_a20, ↓zt_a21, ↓zt_s1 hm, ↓zt_s2 hm, ↓zt_s3 hm, ↓zt_s4 hm, ↓zt_s5 hm, ↓zt_s6 hm, ↓zt_s7 hm, ↓zt_s8 hm, ↓zt_s9 hm, ↓zt_s10 hm, ↓zt_s11 hm, ↓zt_s12 hm, ↓zt_s16 hm, ↓zt_s17 hm, ↓zt_s18 hm, ↓zt_s20 hm, ↓zt_s13 hm, ↓zt_s14 hm, ↓zt_s15 hm, ↓zt_s21 hm, ↓zt_l19, ↓zt_l17, forall_eq, ↓zqI_r, ↓zqL_r, ↓zqD_r, ↓zqF_r, ↓zqV_r, ↓zqR_r, ↓zqR_s, zboolb, zbool0, zbool1, true_and, and_true, ↓zl_156, ↓zl_159, ↓zl_163 hm, ↓zl_165, ↓zl_166, ↓zl_167, ↓zl_179, ↓zl_181, ↓zl_184, ↓zl_188, ↓zl_189, ↓zl_190, ↓zl_191, ↓zl_192, ↓zl_203, ↓zl_216, ↓zl_226, ↓zl_255 hm]
    refine ⟨fun h9 => absurd trivial h9, fun _ => ?_⟩
    exact h0 hi _ (zt_pe.re zt_pe.thr)
theorem zt_182 (hm : G.1 ≤ m) (hM : M.2.2.1 1 = V) (hV : zs_ok V) {x : Int32} (h : ∀ M', zt_pe 0 M M' → Q (some (.int (nI (zs_pw V x.toInt (zs_thr V))))) (zt_S σ m N M')) : zCall G (n + 6) 182 [.ref m, .int x] Q Y (zt_S σ m N M) := by
  have hA := hV.all
  refine ze182 ⟨_, _, rfl, ?_⟩
  simp only [↓zt_rc, ↓zt_g0, ↓zt_g1, ↓zt_g2, ↓zt_g3, ↓zt_g4, ↓zt_g5, ↓zt_g6, ↓zt_g7, ↓zt_g8, ↓zt_g9, ↓zt_g10, ↓zt_g11, ↓zt_g12, ↓zt_g13, ↓zt_g14, ↓zt_g15, ↓zt_g16, ↓zt_g17, ↓zt_g18, ↓zt_g19, ↓zt_g20, ↓zt_g21, ↓zt_g22, ↓zt_g23, ↓zt_g24, ↓zt_g25, ↓zt_g26, ↓zt_g27, ↓zt_g28, ↓zt_g29, ↓zt_g30, ↓zt_g31, ↓zt_g32, ↓zt_g33, ↓zt_g34, ↓zt_g35, ↓zt_g36, ↓zt_g37, ↓zt_g38, ↓zt_g39, ↓zt_g40, ↓zt_p4 hm, ↓zt_p5 hm, ↓zt_p6 hm, ↓zt_p15 hm, ↓zt_p21 hm, ↓zt_p22 hm, ↓zt_p23 hm, ↓zt_p26 hm, ↓zt_p28 hm, ↓zt_p29 hm, ↓zt_p30 hm, ↓zt_p31 hm, ↓zt_p32 hm, ↓zt_p33 hm, ↓zt_p34 hm, ↓zt_p35 hm, ↓zt_p36 hm, ↓zt_p40 hm, ↓zt_p19 hm, ↓zt_p20 hm, ↓zt_a1, ↓zt_a2, ↓zt_a3, ↓zt_a4, ↓zt_a5, ↓zt_a6, ↓zt_a7, ↓zt_a8, ↓zt_a9, ↓zt_a10, ↓zt_a11, ↓zt_a12, ↓zt_a13, ↓zt_a14, ↓zt_a15, ↓zt_a16, ↓zt_a17, ↓zt_a18, ↓zt_a19, ↓zt_a20, ↓zt_a21, ↓zt_s1 hm, ↓zt_s2 hm, ↓zt_s3 hm, ↓zt_s4 hm, ↓zt_s5 hm, ↓zt_s6 hm, ↓zt_s7 hm, ↓zt_s8 hm, ↓zt_s9 hm, ↓zt_s10 hm, ↓zt_s11 hm, ↓zt_s12 hm, ↓zt_s16 hm, ↓zt_s17 hm, ↓zt_s18 hm, ↓zt_s20 hm, ↓zt_s13 hm, ↓zt_s14 hm, ↓zt_s15 hm, ↓zt_s21 hm, ↓zt_l19, ↓zt_l17, forall_eq, ↓zqI_r, ↓zqL_r, ↓zqD_r, ↓zqF_r, ↓zqV_r, ↓zqR_r, ↓zqR_s, zboolb, zbool0, zbool1, true_and, and_true]
  refine zt_177 hm (by exact hM) hV (fun M' hk hl hr => ?_)
  have e1 : M'.2.2.1 1 = V := (hk.2.2.2 1 (by omega)).trans hM
  simp only [forall_eq, ↓zqI_r, ↓zqL_r, ↓zqD_r, ↓zqF_r, ↓zqV_r, ↓zqR_r, ↓zqR_s]
  refine zf3 0 (zs_all V) (fun k y s' => s' = zt_S σ m N M' ∧ y = nI (zs_ct (fun p => zs_w V 0 p ≤ zs_cap V ∧ x.toInt ≤ zs_res V true (zs_thr V) p) k)) (by omega) ?_ ?_ ⟨rfl, rfl⟩
  · rintro rec q y s' _ hq ⟨rfl, rfl⟩ hrec
    simp only [↓zt_rc, ↓zt_g0, ↓zt_g1, ↓zt_g2, ↓zt_g3, ↓zt_g4, ↓zt_g5, ↓zt_g6, ↓zt_g7, ↓zt_g8, ↓zt_g9, ↓zt_g10, ↓zt_g11, ↓zt_g12, ↓zt_g13, ↓zt_g14, ↓zt_g15, ↓zt_g16, ↓zt_g17, ↓zt_g18, ↓zt_g19, ↓zt_g20, ↓zt_g21, ↓zt_g22, ↓zt_g23, ↓zt_g24, ↓zt_g25, ↓zt_g26, ↓zt_g27, ↓zt_g28, ↓zt_g29, ↓zt_g30, ↓zt_g31, ↓zt_g32, ↓zt_g33, ↓zt_g34, ↓zt_g35, ↓zt_g36, ↓zt_g37, ↓zt_g38, ↓zt_g39, ↓zt_g40, ↓zt_p4 hm, ↓zt_p5 hm, ↓zt_p6 hm, ↓zt_p15 hm, ↓zt_p21 hm, ↓zt_p22 hm, ↓zt_p23 hm, ↓zt_p26 hm, ↓zt_p28 hm, ↓zt_p29 hm, ↓zt_p30 hm, ↓zt_p31 hm, ↓zt_p32 hm, ↓zt_p33 hm, ↓zt_p34 hm, ↓zt_p35 hm, ↓zt_p36 hm, ↓zt_p40 hm, ↓zt_p19 hm, ↓zt_p20 hm, ↓zt_a1, ↓zt_a2, ↓zt_a3, ↓zt_a4, ↓zt_a5, ↓zt_a6, ↓zt_a7, ↓zt_a8, ↓zt_a9, ↓zt_a10, ↓zt_a11, ↓zt_a12, ↓zt_a13, ↓zt_a14, ↓zt_a15, ↓zt_a16, ↓zt_a17, ↓zt_a18, ↓zt_a19, ↓zt_a20, ↓zt_a21, ↓zt_s1 hm, ↓zt_s2 hm, ↓zt_s3 hm, ↓zt_s4 hm, ↓zt_s5 hm, ↓zt_s6 hm, ↓zt_s7 hm, ↓zt_s8 hm, ↓zt_s9 hm, ↓zt_s10 hm, ↓zt_s11 hm, ↓zt_s12 hm, ↓zt_s16 hm, ↓zt_s17 hm, ↓zt_s18 hm, ↓zt_s20 hm, ↓zt_s13 hm, ↓zt_s14 hm, ↓zt_s15 hm, ↓zt_s21 hm, ↓zt_l19, ↓zt_l17, forall_eq, ↓zqI_r, ↓zqL_r, ↓zqD_r, ↓zqF_r, ↓zqV_r, ↓zqR_r, ↓zqR_s, zboolb, zbool0, zbool1, true_and, and_true, ↓zl_159, zJ, ↓zl_fit e1 hV hl hq, ↓zl_res hV hl hr hq, zs_b0, Classical.not_not]
    rw [zl_shl e1 hV]
    have hb := zs_rs_b hV (g := true) (t := zs_thr V) (p := q)
    have e : iI (zs_rs V true (zs_thr V) q) < x ↔ ¬ x.toInt ≤ zs_rs V true (zs_thr V) q := by
      rw [fa_lt, iI_to (by omega) (by omega)]
      omega
    rw [e, Classical.not_not]
    refine ⟨fun hle => absurd hle (nI_ge hq (by omega)), fun _ => ⟨fun h1 => hrec _ _ ⟨rfl, ?_⟩, fun h1 => ⟨fun h2 => hrec _ _ ⟨rfl, ?_⟩, fun h2 => hrec _ _ ⟨rfl, ?_⟩⟩⟩⟩
    · simp only [zs_ct, if_neg (fun h9 : _ ∧ _ => h1 h9.1)]
      show nI _ + nI 0 = _
      rw [nI_add]
    · rw [zs_rs_fit h1] at h2
      simp only [zs_ct, if_neg (fun h9 : _ ∧ _ => h2 h9.2)]
      show nI _ + nI 0 = _
      rw [nI_add]
    · rw [zs_rs_fit h1] at h2
      simp only [zs_ct, if_pos (And.intro h1 h2)]
      show nI _ + nI 1 = _
      rw [nI_add]
  · rintro rec y s' ⟨rfl, rfl⟩
    simp only [↓zt_rc, ↓zt_g0, ↓zt_g1, ↓zt_g2, ↓zt_g3, ↓zt_g4, ↓zt_g5, ↓zt_g6, ↓zt_g7, ↓zt_g8, ↓zt_g9, ↓zt_g10, ↓zt_g11, ↓zt_g12, ↓zt_g13, ↓zt_g14, ↓zt_g15, ↓zt_g16, ↓zt_g17, ↓zt_g18, ↓zt_g19, ↓zt_g20, ↓zt_g21, ↓zt_g22, ↓zt_g23, ↓zt_g24, ↓zt_g25, ↓zt_g26, ↓zt_g27, ↓zt_g28, ↓zt_g29, ↓zt_g30, ↓zt_g31, ↓zt_g32, ↓zt_g33, ↓zt_g34, ↓zt_g35, ↓zt_g36, ↓zt_g37, ↓zt_g38, ↓zt_g39, ↓zt_g40, ↓zt_p4 hm, ↓zt_p5 hm, ↓zt_p6 hm, ↓zt_p15 hm, ↓zt_p21 hm, ↓zt_p22 hm, ↓zt_p23 hm, ↓zt_p26 hm, ↓zt_p28 hm, ↓zt_p29 hm, ↓zt_p30 hm, ↓zt_p31 hm, ↓zt_p32 hm, ↓zt_p33 hm, ↓zt_p34 hm, ↓zt_p35 hm, ↓zt_p36 hm, ↓zt_p40 hm, ↓zt_p19 hm, ↓zt_p20 hm, ↓zt_a1, ↓zt_a2, ↓zt_a3, ↓zt_a4, ↓zt_a5, ↓zt_a6, ↓zt_a7, ↓zt_a8, ↓zt_a9, ↓zt_a10, ↓zt_a11, ↓zt_a12, ↓zt_a13, ↓zt_a14, ↓zt_a15, ↓zt_a16, ↓zt_a17, ↓zt_a18, ↓zt_a19, ↓zt_a20, ↓zt_a21, ↓zt_s1 hm, ↓zt_s2 hm, ↓zt_s3 hm, ↓zt_s4 hm, ↓zt_s5 hm, ↓zt_s6 hm, ↓zt_s7 hm, ↓zt_s8 hm, ↓zt_s9 hm, ↓zt_s10 hm, ↓zt_s11 hm, ↓zt_s12 hm, ↓zt_s16 hm, ↓zt_s17 hm, ↓zt_s18 hm, ↓zt_s20 hm, ↓zt_s13 hm, ↓zt_s14 hm, ↓zt_s15 hm, ↓zt_s21 hm, ↓zt_l19, ↓zt_l17, forall_eq, ↓zqI_r, ↓zqL_r, ↓zqD_r, ↓zqF_r, ↓zqV_r, ↓zqR_r, ↓zqR_s, zboolb, zbool0, zbool1, true_and, and_true, ↓zl_159]
    rw [zl_shl e1 hV]
    exact ⟨fun _ => h M' ((zt_pe.thr).kp hk (by omega) (by omega)), fun hn => absurd (nI_le (Nat.le_refl _) (by omega)) hn⟩
theorem zt_180 (hM : M.2.2.1 1 = V) (hV : zs_ok V) (hl : zt_ly V M (zs_all V)) (hr : zt_lr V true (zs_thr V) M (zs_all V)) {p : Nat} (hp : p < zs_all V) (hf : zs_fit V p) (h : Q (some (.int (nI (zs_place V p)))) (zt_S σ m N M)) : zCall G (n + 2) 180 [.ref m, .int (nI p)] Q Y (zt_S σ m N M) := by
  have hA := hV.all
  have hbp := zs_rs_b hV (g := true) (t := zs_thr V) (p := p)
  refine ze180 ⟨_, _, rfl, ?_⟩
  simp only [↓zt_rc, ↓zt_g0, ↓zt_g1, ↓zt_g2, ↓zt_g3, ↓zt_g4, ↓zt_g5, ↓zt_g6, ↓zt_g7, ↓zt_g8, ↓zt_g9, ↓zt_g10, ↓zt_g11, ↓zt_g12, ↓zt_g13, ↓zt_g14, ↓zt_g15, ↓zt_g16, ↓zt_g17, ↓zt_g18, ↓zt_g19, ↓zt_g20, ↓zt_g21, ↓zt_g22, ↓zt_g23, ↓zt_g24, ↓zt_g25, ↓zt_g26, ↓zt_g27, ↓zt_g28, ↓zt_g29, ↓zt_g30, ↓zt_g31, ↓zt_g32, ↓zt_g33, ↓zt_g34, ↓zt_g35, ↓zt_g36, ↓zt_g37, ↓zt_g38, ↓zt_g39, ↓zt_g40, ↓zt_a1, ↓zt_a2, ↓zt_a3, ↓zt_a4, ↓zt_a5, ↓zt_a6, ↓zt_a7, ↓zt_a8, ↓zt_a9, ↓zt_a10, ↓zt_a11, ↓zt_a12, ↓zt_a13, ↓zt_a14, ↓zt_a15, ↓zt_a16, ↓zt_a17, ↓zt_a18, ↓zt_a19, ↓zt_a20, ↓zt_a21, ↓zt_l19, ↓zt_l17, forall_eq, ↓zqI_r, ↓zqL_r, ↓zqD_r, ↓zqF_r, ↓zqV_r, ↓zqR_r, ↓zqR_s, zboolb, zbool0, zbool1, true_and, and_true, ↓zl_res hV hl hr hp]
  refine zf3 0 (zs_all V) (fun k y s' => s' = zt_S σ m N M ∧ y = nI (zs_ct (fun q => zs_w V 0 q ≤ zs_cap V ∧ (zs_res V true (zs_thr V) p < zs_res V true (zs_thr V) q ∨ (zs_res V true (zs_thr V) q = zs_res V true (zs_thr V) p ∧ q < p))) k)) (by omega) ?_ ?_ ⟨rfl, rfl⟩
  · rintro rec q y s' _ hq ⟨rfl, rfl⟩ hrec
    have hb := zs_rs_b hV (g := true) (t := zs_thr V) (p := q)
    simp only [↓zt_rc, ↓zt_g0, ↓zt_g1, ↓zt_g2, ↓zt_g3, ↓zt_g4, ↓zt_g5, ↓zt_g6, ↓zt_g7, ↓zt_g8, ↓zt_g9, ↓zt_g10, ↓zt_g11, ↓zt_g12, ↓zt_g13, ↓zt_g14, ↓zt_g15, ↓zt_g16, ↓zt_g17, ↓zt_g18, ↓zt_g19, ↓zt_g20, ↓zt_g21, ↓zt_g22, ↓zt_g23, ↓zt_g24, ↓zt_g25, ↓zt_g26, ↓zt_g27, ↓zt_g28, ↓zt_g29, ↓zt_g30, ↓zt_g31, ↓zt_g32, ↓zt_g33, ↓zt_g34, ↓zt_g35, ↓zt_g36, ↓zt_g37, ↓zt_g38, ↓zt_g39, ↓zt_g40, ↓zt_a1, ↓zt_a2, ↓zt_a3, ↓zt_a4, ↓zt_a5, ↓zt_a6, ↓zt_a7, ↓zt_a8, ↓zt_a9, ↓zt_a10, ↓zt_a11, ↓zt_a12, ↓zt_a13, ↓zt_a14, ↓zt_a15, ↓zt_a16, ↓zt_a17, ↓zt_a18, ↓zt_a19, ↓zt_a20, ↓zt_a21, ↓zt_l19, ↓zt_l17, forall_eq, ↓zqI_r, ↓zqL_r, ↓zqD_r, ↓zqF_r, ↓zqV_r, ↓zqR_r, ↓zqR_s, zboolb, zbool0, zbool1, true_and, and_true, ↓zl_159, zJ, ↓zl_fit hM hV hl hq, ↓zl_res hV hl hr hq, zs_b0, Classical.not_not, iI_sub]
    rw [zl_shl hM hV]
    refine ⟨fun hle => absurd hle (nI_ge hq (by omega)), fun _ => ⟨fun h1 => hrec _ _ ⟨rfl, ?_⟩, fun h1 => ?_⟩⟩
    · simp only [zs_ct, if_neg (fun h9 : _ ∧ _ => h1 h9.1)]
      rfl
    · have h1' : zs_fit V q := h1
      rw [zs_rs_fit h1', zs_rs_fit hf] at *
      refine zt_fin (by omega) (by omega) (by omega) (by omega) (fun h2 => hrec _ _ ⟨rfl, ?_⟩) (fun h2 => hrec _ _ ⟨rfl, ?_⟩)
      · simp only [zs_ct]
        rw [if_pos ⟨h1, by omega⟩]
        show nI _ + nI 1 = _
        rw [nI_add]
      · simp only [zs_ct]
        rw [if_neg (fun h9 => h2 (by omega))]
        show nI _ + nI 0 = _
        rw [nI_add]
  · rintro rec y s' ⟨rfl, rfl⟩
    simp only [↓zt_rc, ↓zt_g0, ↓zt_g1, ↓zt_g2, ↓zt_g3, ↓zt_g4, ↓zt_g5, ↓zt_g6, ↓zt_g7, ↓zt_g8, ↓zt_g9, ↓zt_g10, ↓zt_g11, ↓zt_g12, ↓zt_g13, ↓zt_g14, ↓zt_g15, ↓zt_g16, ↓zt_g17, ↓zt_g18, ↓zt_g19, ↓zt_g20, ↓zt_g21, ↓zt_g22, ↓zt_g23, ↓zt_g24, ↓zt_g25, ↓zt_g26, ↓zt_g27, ↓zt_g28, ↓zt_g29, ↓zt_g30, ↓zt_g31, ↓zt_g32, ↓zt_g33, ↓zt_g34, ↓zt_g35, ↓zt_g36, ↓zt_g37, ↓zt_g38, ↓zt_g39, ↓zt_g40, ↓zt_a1, ↓zt_a2, ↓zt_a3, ↓zt_a4, ↓zt_a5, ↓zt_a6, ↓zt_a7, ↓zt_a8, ↓zt_a9, ↓zt_a10, ↓zt_a11, ↓zt_a12, ↓zt_a13, ↓zt_a14, ↓zt_a15, ↓zt_a16, ↓zt_a17, ↓zt_a18, ↓zt_a19, ↓zt_a20, ↓zt_a21, ↓zt_l19, ↓zt_l17, forall_eq, ↓zqI_r, ↓zqL_r, ↓zqD_r, ↓zqF_r, ↓zqV_r, ↓zqR_r, ↓zqR_s, zboolb, zbool0, zbool1, true_and, and_true, ↓zl_159]
    rw [zl_shl hM hV]
    exact ⟨fun _ => h, fun hn => absurd (nI_le (Nat.le_refl _) (by omega)) hn⟩
theorem zt_176 (hm : G.1 ≤ m) (hM : M.2.2.1 1 = V) (hV : zs_ok V) {x : Int32} (h1 : ∀ p, p < zs_all V → zs_fit V p → nI (zs_place V p) = x → ∀ M', zt_pe 0 M M' → Q (some (.int (nI p))) (zt_S σ m N M')) (h0 : (∀ p, p < zs_all V → zs_fit V p → nI (zs_place V p) ≠ x) → ∀ M', zt_pe 1 M M' → Q (some (.int 0)) (zt_S σ m N M')) : zCall G (n + 6) 176 [.ref m, .int x] Q Y (zt_S σ m N M) := by
  have hA := hV.all
  refine ze176 ⟨_, _, rfl, ?_⟩
  simp only [↓zt_rc, ↓zt_g0, ↓zt_g1, ↓zt_g2, ↓zt_g3, ↓zt_g4, ↓zt_g5, ↓zt_g6, ↓zt_g7, ↓zt_g8, ↓zt_g9, ↓zt_g10, ↓zt_g11, ↓zt_g12, ↓zt_g13, ↓zt_g14, ↓zt_g15, ↓zt_g16, ↓zt_g17, ↓zt_g18, ↓zt_g19, ↓zt_g20, ↓zt_g21, ↓zt_g22, ↓zt_g23, ↓zt_g24, ↓zt_g25, ↓zt_g26, ↓zt_g27, ↓zt_g28, ↓zt_g29, ↓zt_g30, ↓zt_g31, ↓zt_g32, ↓zt_g33, ↓zt_g34, ↓zt_g35, ↓zt_g36, ↓zt_g37, ↓zt_g38, ↓zt_g39, ↓zt_g40, ↓zt_p4 hm, ↓zt_p5 hm, ↓zt_p6 hm, ↓zt_p15 hm, ↓zt_p21 hm, ↓zt_p22 hm, ↓zt_p23 hm, ↓zt_p26 hm, ↓zt_p28 hm, ↓zt_p29 hm, ↓zt_p30 hm, ↓zt_p31 hm, ↓zt_p32 hm, ↓zt_p33 hm, ↓zt_p34 hm, ↓zt_p35 hm, ↓zt_p36 hm, ↓zt_p40 hm, ↓zt_p19 hm, ↓zt_p20 hm, ↓zt_a1, ↓zt_a2, ↓zt_a3, ↓zt_a4, ↓zt_a5, ↓zt_a6, ↓zt_a7, ↓zt_a8, ↓zt_a9, ↓zt_a10, ↓zt_a11, ↓zt_a12, ↓zt_a13, ↓zt_a14, ↓zt_a15, ↓zt_a16, ↓zt_a17, ↓zt_a18, ↓zt_a19, ↓zt_a20, ↓zt_a21, ↓zt_s1 hm, ↓zt_s2 hm, ↓zt_s3 hm, ↓zt_s4 hm, ↓zt_s5 hm, ↓zt_s6 hm, ↓zt_s7 hm, ↓zt_s8 hm, ↓zt_s9 hm, ↓zt_s10 hm, ↓zt_s11 hm, ↓zt_s12 hm, ↓zt_s16 hm, ↓zt_s17 hm, ↓zt_s18 hm, ↓zt_s20 hm, ↓zt_s13 hm, ↓zt_s14 hm, ↓zt_s15 hm, ↓zt_s21 hm, ↓zt_l19, ↓zt_l17, forall_eq, ↓zqI_r, ↓zqL_r, ↓zqD_r, ↓zqF_r, ↓zqV_r, ↓zqR_r, ↓zqR_s, zboolb, zbool0, zbool1, true_and, and_true]
  refine zt_177 hm (by exact hM) hV (fun M' hk hl hr => ?_)
  have e1 : M'.2.2.1 1 = V := (hk.2.2.2 1 (by omega)).trans hM
  have hpe : zt_pe 0 M M' := (zt_pe.thr).kp hk (by omega) (by omega)
  simp only [forall_eq, ↓zqI_r, ↓zqL_r, ↓zqD_r, ↓zqF_r, ↓zqV_r, ↓zqR_r, ↓zqR_s]
  refine zf2 0 (zs_all V) (fun k s' => s' = zt_S σ m N M' ∧ ∀ p, p < k → zs_fit V p → nI (zs_place V p) ≠ x) (by omega) ?_ ?_ ⟨rfl, fun p hp => absurd hp (by omega)⟩
  · rintro rec q s' _ hq ⟨rfl, hno⟩ hrec
    simp only [↓zt_rc, ↓zt_g0, ↓zt_g1, ↓zt_g2, ↓zt_g3, ↓zt_g4, ↓zt_g5, ↓zt_g6, ↓zt_g7, ↓zt_g8, ↓zt_g9, ↓zt_g10, ↓zt_g11, ↓zt_g12, ↓zt_g13, ↓zt_g14, ↓zt_g15, ↓zt_g16, ↓zt_g17, ↓zt_g18, ↓zt_g19, ↓zt_g20, ↓zt_g21, ↓zt_g22, ↓zt_g23, ↓zt_g24, ↓zt_g25, ↓zt_g26, ↓zt_g27, ↓zt_g28, ↓zt_g29, ↓zt_g30, ↓zt_g31, ↓zt_g32, ↓zt_g33, ↓zt_g34, ↓zt_g35, ↓zt_g36, ↓zt_g37, ↓zt_g38, ↓zt_g39, ↓zt_g40, ↓zt_p4 hm, ↓zt_p5 hm, ↓zt_p6 hm, ↓zt_p15 hm, ↓zt_p21 hm, ↓zt_p22 hm, ↓zt_p23 hm, ↓zt_p26 hm, ↓zt_p28 hm, ↓zt_p29 hm, ↓zt_p30 hm, ↓zt_p31 hm, ↓zt_p32 hm, ↓zt_p33 hm, ↓zt_p34 hm, ↓zt_p35 hm, ↓zt_p36 hm, ↓zt_p40 hm, ↓zt_p19 hm, ↓zt_p20 hm, ↓zt_a1, ↓zt_a2, ↓zt_a3, ↓zt_a4, ↓zt_a5, ↓zt_a6, ↓zt_a7, ↓zt_a8, ↓zt_a9, ↓zt_a10, ↓zt_a11, ↓zt_a12, ↓zt_a13, ↓zt_a14, ↓zt_a15, ↓zt_a16, ↓zt_a17, ↓zt_a18, ↓zt_a19, ↓zt_a20, ↓zt_a21, ↓zt_s1 hm, ↓zt_s2 hm, ↓zt_s3 hm, ↓zt_s4 hm, ↓zt_s5 hm, ↓zt_s6 hm, ↓zt_s7 hm, ↓zt_s8 hm, ↓zt_s9 hm, ↓zt_s10 hm, ↓zt_s11 hm, ↓zt_s12 hm, ↓zt_s16 hm, ↓zt_s17 hm, ↓zt_s18 hm, ↓zt_s20 hm, ↓zt_s13 hm, ↓zt_s14 hm, ↓zt_s15 hm, ↓zt_s21 hm, ↓zt_l19, ↓zt_l17, forall_eq, ↓zqI_r, ↓zqL_r, ↓zqD_r, ↓zqF_r, ↓zqV_r, ↓zqR_r, ↓zqR_s, zboolb, zbool0, zbool1, true_and, and_true, ↓zl_159, zJ, ↓zl_fit e1 hV hl hq, zs_b0, Classical.not_not]
    rw [zl_shl e1 hV]
    refine ⟨fun hle => absurd hle (nI_ge hq (by omega)), fun _ => ⟨fun h2 => hrec _ ⟨rfl, fun p hp hf => ?_⟩, fun h2 => ?_⟩⟩
    · by_cases e : p = q
      · subst e
        exact absurd hf h2
      · exact hno p (by omega) hf
    · refine zt_180 e1 hV hl hr hq h2 ?_
      simp only [forall_eq, ↓zqI_r, ↓zqL_r, ↓zqD_r, ↓zqF_r, ↓zqV_r, ↓zqR_r, ↓zqR_s]
      refine ⟨fun h3 => hrec _ ⟨rfl, fun p hp hf => ?_⟩, fun h3 => h1 q hq h2 h3 M' hpe⟩
      by_cases e : p = q
      · subst e
        exact h3
      · exact hno p (by omega) hf
  · rintro rec s' ⟨rfl, hno⟩
    simp only [↓zt_rc, ↓zt_g0, ↓zt_g1, ↓zt_g2, ↓zt_g3, ↓zt_g4, ↓zt_g5, ↓zt_g6, ↓zt_g7, ↓zt_g8, ↓zt_g9, ↓zt_g10, ↓zt_g11, ↓zt_g12, ↓zt_g13, ↓zt_g14, ↓zt_g15, ↓zt_g16, ↓zt_g17, ↓zt_g18, ↓zt_g19, ↓zt_g20, ↓zt_g21, ↓zt_g22, ↓zt_g23, ↓zt_g24, ↓zt_g25, ↓zt_g26, ↓zt_g27, ↓zt_g28, ↓zt_g29, ↓zt_g30, ↓zt_g31, ↓zt_g32, ↓zt_g33, ↓zt_g34, ↓zt_g35, ↓zt_g36, ↓zt_g37, ↓zt_g38, ↓zt_g39, ↓zt_g40, ↓zt_p4 hm, ↓zt_p5 hm, ↓zt_p6 hm, ↓zt_p15 hm, ↓zt_p21 hm, ↓zt_p22 hm, ↓zt_p23 hm, ↓zt_p26 hm, ↓zt_p28 hm, ↓zt_p29 hm, ↓zt_p30 hm, ↓zt_p31 hm, ↓zt_p32 hm, ↓zt_p33 hm, ↓zt_p34 hm, ↓zt_p35 hm, ↓zt_p36 hm, ↓zt_p40 hm, ↓zt_p19 hm, ↓zt_p20 hm, ↓zt_a1, ↓zt_a2, ↓zt_a3, ↓zt_a4, ↓zt_a5, ↓zt_a6, ↓zt_a7, ↓zt_a8, ↓zt_a9, ↓zt_a10, ↓zt_a11, ↓zt_a12, ↓zt_a13, ↓zt_a14, ↓zt_a15, ↓zt_a16, ↓zt_a17, ↓zt_a18, ↓zt_a19, ↓zt_a20, ↓zt_a21, ↓zt_s1 hm, ↓zt_s2 hm, ↓zt_s3 hm, ↓zt_s4 hm, ↓zt_s5 hm, ↓zt_s6 hm, ↓zt_s7 hm, ↓zt_s8 hm, ↓zt_s9 hm, ↓zt_s10 hm, ↓zt_s11 hm, ↓zt_s12 hm, ↓zt_s16 hm, ↓zt_s17 hm, ↓zt_s18 hm, ↓zt_s20 hm, ↓zt_s13 hm, ↓zt_s14 hm, ↓zt_s15 hm, ↓zt_s21 hm, ↓zt_l19, ↓zt_l17, forall_eq, ↓zqI_r, ↓zqL_r, ↓zqD_r, ↓zqF_r, ↓zqV_r, ↓zqR_r, ↓zqR_s, zboolb, zbool0, zbool1, true_and, and_true, ↓zl_159, ↓zl_163 hm]
    rw [zl_shl e1 hV]
    exact ⟨fun _ => h0 hno _ hpe.re, fun hn => absurd (nI_le (Nat.le_refl _) (by omega)) hn⟩
theorem zt_186 (hM : M.2.2.1 1 = V) (hV : zs_ok V) (hl : zt_ly V M (zs_all V)) (hr : zt_lr V false (zs_thr V) M (zs_all V)) (h : Q (some (.int (nI (zs_fp V (zs_all V))))) (zt_S σ m N M)) : zCall G (n + 2) 186 [.ref m] Q Y (zt_S σ m N M) := by
  have hA := hV.all
  refine ze186 ⟨_, rfl, ?_⟩
  refine zf3 1 (zs_all V) (fun k y s' => s' = zt_S σ m N M ∧ y = nI (zs_fp V k)) (by omega) ?_ ?_ ⟨rfl, rfl⟩
  · rintro rec q y s' hq1 hq ⟨rfl, rfl⟩ hrec
    have hb := zs_rs_b hV (g := false) (t := zs_thr V) (p := q)
    have hfp := zs_fp_ok hV q
    have hbb := zs_rs_b hV (g := false) (t := zs_thr V) (p := zs_fp V q)
    have hlt : zs_fp V q < zs_all V := by omega
    simp only [↓zt_rc, ↓zt_g0, ↓zt_g1, ↓zt_g2, ↓zt_g3, ↓zt_g4, ↓zt_g5, ↓zt_g6, ↓zt_g7, ↓zt_g8, ↓zt_g9, ↓zt_g10, ↓zt_g11, ↓zt_g12, ↓zt_g13, ↓zt_g14, ↓zt_g15, ↓zt_g16, ↓zt_g17, ↓zt_g18, ↓zt_g19, ↓zt_g20, ↓zt_g21, ↓zt_g22, ↓zt_g23, ↓zt_g24, ↓zt_g25, ↓zt_g26, ↓zt_g27, ↓zt_g28, ↓zt_g29, ↓zt_g30, ↓zt_g31, ↓zt_g32, ↓zt_g33, ↓zt_g34, ↓zt_g35, ↓zt_g36, ↓zt_g37, ↓zt_g38, ↓zt_g39, ↓zt_g40, ↓zt_a1, ↓zt_a2, ↓zt_a3, ↓zt_a4, ↓zt_a5, ↓zt_a6, ↓zt_a7, ↓zt_a8, ↓zt_a9, ↓zt_a10, ↓zt_a11, ↓zt_a12, ↓zt_a13, ↓zt_a14, ↓zt_a15, ↓zt_a16, ↓zt_a17, ↓zt_a18, ↓zt_a19, ↓zt_a20, ↓zt_a21, ↓zt_l19, ↓zt_l17, forall_eq, ↓zqI_r, ↓zqL_r, ↓zqD_r, ↓zqF_r, ↓zqV_r, ↓zqR_r, ↓zqR_s, zboolb, zbool0, zbool1, true_and, and_true, ↓zl_159, zJ, ↓zl_fit hM hV hl hq, ↓zl_res hV hl hr hq, ↓zl_res hV hl hr hlt, zs_b0, Classical.not_not]
    rw [zl_shl hM hV, iI_le (by omega) (by omega) (by omega) (by omega)]
    refine ⟨fun hle => absurd hle (nI_ge hq (by omega)), fun _ => ⟨fun h1 => hrec _ _ ⟨rfl, ?_⟩, fun h1 => ?_⟩⟩
    · simp only [zs_fp, if_neg (show ¬ q = 0 by omega), if_neg (fun h9 : _ ∧ _ => h1 h9.1)]
    · have h1' : zs_fit V q := h1
      rw [zs_rs_fit h1', zs_rs_fit hfp.1]
      refine ⟨fun h2 => hrec _ _ ⟨rfl, ?_⟩, fun h2 => hrec _ _ ⟨rfl, ?_⟩⟩
      · simp only [zs_fp, if_neg (show ¬ q = 0 by omega)]
        rw [if_neg (fun h9 => by omega)]
      · simp only [zs_fp, if_neg (show ¬ q = 0 by omega)]
        rw [if_pos ⟨h1, by omega⟩]
  · rintro rec y s' ⟨rfl, rfl⟩
    simp only [↓zt_rc, ↓zt_g0, ↓zt_g1, ↓zt_g2, ↓zt_g3, ↓zt_g4, ↓zt_g5, ↓zt_g6, ↓zt_g7, ↓zt_g8, ↓zt_g9, ↓zt_g10, ↓zt_g11, ↓zt_g12, ↓zt_g13, ↓zt_g14, ↓zt_g15, ↓zt_g16, ↓zt_g17, ↓zt_g18, ↓zt_g19, ↓zt_g20, ↓zt_g21, ↓zt_g22, ↓zt_g23, ↓zt_g24, ↓zt_g25, ↓zt_g26, ↓zt_g27, ↓zt_g28, ↓zt_g29, ↓zt_g30, ↓zt_g31, ↓zt_g32, ↓zt_g33, ↓zt_g34, ↓zt_g35, ↓zt_g36, ↓zt_g37, ↓zt_g38, ↓zt_g39, ↓zt_g40, ↓zt_a1, ↓zt_a2, ↓zt_a3, ↓zt_a4, ↓zt_a5, ↓zt_a6, ↓zt_a7, ↓zt_a8, ↓zt_a9, ↓zt_a10, ↓zt_a11, ↓zt_a12, ↓zt_a13, ↓zt_a14, ↓zt_a15, ↓zt_a16, ↓zt_a17, ↓zt_a18, ↓zt_a19, ↓zt_a20, ↓zt_a21, ↓zt_l19, ↓zt_l17, forall_eq, ↓zqI_r, ↓zqL_r, ↓zqD_r, ↓zqF_r, ↓zqV_r, ↓zqR_r, ↓zqR_s, zboolb, zbool0, zbool1, true_and, and_true, ↓zl_159]
    rw [zl_shl hM hV]
    exact ⟨fun _ => h, fun hn => absurd (nI_le (Nat.le_refl _) (by omega)) hn⟩
theorem zt_185 (hm : G.1 ≤ m) (hM : M.2.2.1 1 = V) (hV : zs_ok V) (h : ∀ M', zt_pe 0 M M' → Q (some (.int (nI (zs_fp V (zs_all V))))) (zt_S σ m N M')) : zCall G (n + 5) 185 [.ref m] Q Y (zt_S σ m N M) := by
  have hc := hV.c2
  refine ze185 ⟨_, rfl, ?_⟩
  simp only [↓zt_rc, ↓zt_g0, ↓zt_g1, ↓zt_g2, ↓zt_g3, ↓zt_g4, ↓zt_g5, ↓zt_g6, ↓zt_g7, ↓zt_g8, ↓zt_g9, ↓zt_g10, ↓zt_g11, ↓zt_g12, ↓zt_g13, ↓zt_g14, ↓zt_g15, ↓zt_g16, ↓zt_g17, ↓zt_g18, ↓zt_g19, ↓zt_g20, ↓zt_g21, ↓zt_g22, ↓zt_g23, ↓zt_g24, ↓zt_g25, ↓zt_g26, ↓zt_g27, ↓zt_g28, ↓zt_g29, ↓zt_g30, ↓zt_g31, ↓zt_g32, ↓zt_g33, ↓zt_g34, ↓zt_g35, ↓zt_g36, ↓zt_g37, ↓zt_g38, ↓zt_g39, ↓zt_g40, ↓zt_p4 hm, ↓zt_p5 hm, ↓zt_p6 hm, ↓zt_p15 hm, ↓zt_p21 hm, ↓zt_p22 hm, ↓zt_p23 hm, ↓zt_p26 hm, ↓zt_p28 hm, ↓zt_p29 hm, ↓zt_p30 hm, ↓zt_p31 hm, ↓zt_p32 hm, ↓zt_p33 hm, ↓zt_p34 hm, ↓zt_p35 hm, ↓zt_p36 hm, ↓zt_p40 hm, ↓zt_p19 hm, ↓zt_p20 hm, ↓zt_a1, ↓zt_a2, ↓zt_a3, ↓zt_a4, ↓zt_a5, ↓zt_a6, ↓zt_a7, ↓zt_a8, ↓zt_a9, ↓zt_a10, ↓zt_a11, ↓zt_a12, ↓zt_a13, ↓zt_a14, ↓zt_a15, ↓zt_a16, ↓zt_a17, ↓zt_a18, ↓zt_a19, ↓zt_a20, ↓zt_a21, ↓zt_s1 hm, ↓zt_s2 hm, ↓zt_s3 hm, ↓zt_s4 hm, ↓zt_s5 hm, ↓zt_s6 hm, ↓zt_s7 hm, ↓zt_s8 hm, ↓zt_s9 hm, ↓zt_s10 hm, ↓zt_s11 hm, ↓zt_s12 hm, ↓zt_s16 hm, ↓zt_s17 hm, ↓zt_s18 hm, ↓zt_s20 hm, ↓zt_s13 hm, ↓zt_s14 hm, ↓zt_s15 hm, ↓zt_s21 hm, ↓zt_l19, ↓zt_l17, forall_eq, ↓zqI_r, ↓zqL_r, ↓zqD_r, ↓zqF_r, ↓zqV_r, ↓zqR_r, ↓zqR_s, zboolb, zbool0, zbool1, true_and, and_true, zi_0, zj_0, zi_1, zj_1, zi_2, zj_2, zi_3, zj_3, zi_4, zj_4, zi_5, zj_5, zi_6, zj_6, zi_7, zj_7, zi_8, zj_8, zi_9, zj_9, zi_10, zj_10, true_and, and_true]
  refine zt_178 (g := false) hm (by exact hM) hV (x := M.2.2.1 1 2) (by rw [hM]; unfold zs_thr at hc; omega) (fun M' hk hl hr => ?_)
  have e1 : M'.2.2.1 1 = V := (hk.2.2.2 1 (by omega)).trans hM
  rw [hM] at hr
  simp only [↓zt_rc, ↓zt_g0, ↓zt_g1, ↓zt_g2, ↓zt_g3, ↓zt_g4, ↓zt_g5, ↓zt_g6, ↓zt_g7, ↓zt_g8, ↓zt_g9, ↓zt_g10, ↓zt_g11, ↓zt_g12, ↓zt_g13, ↓zt_g14, ↓zt_g15, ↓zt_g16, ↓zt_g17, ↓zt_g18, ↓zt_g19, ↓zt_g20, ↓zt_g21, ↓zt_g22, ↓zt_g23, ↓zt_g24, ↓zt_g25, ↓zt_g26, ↓zt_g27, ↓zt_g28, ↓zt_g29, ↓zt_g30, ↓zt_g31, ↓zt_g32, ↓zt_g33, ↓zt_g34, ↓zt_g35, ↓zt_g36, ↓zt_g37, ↓zt_g38, ↓zt_g39, ↓zt_g40, ↓zt_p4 hm, ↓zt_p5 hm, ↓zt_p6 hm, ↓zt_p15 hm, ↓zt_p21 hm, ↓zt_p22 hm, ↓zt_p23 hm, ↓zt_p26 hm, ↓zt_p28 hm, ↓zt_p29 hm, ↓zt_p30 hm, ↓zt_p31 hm, ↓zt_p32 hm, ↓zt_p33 hm, ↓zt_p34 hm, ↓zt_p35 hm, ↓zt_p36 hm, ↓zt_p40 hm, ↓zt_p19 hm, ↓zt_p20 hm, ↓zt_a1, ↓zt_a2, ↓zt_a3, ↓zt_a4, ↓zt_a5, ↓zt_a6, ↓zt_a7, ↓zt_a8, ↓zt_a9, ↓zt_a10, ↓zt_a11, ↓zt_a12, ↓zt_a13, ↓zt_a14, ↓zt_a15, ↓zt_a16, ↓zt_a17, ↓zt_a18, ↓zt_a19, ↓zt_a20, ↓zt_a21, ↓zt_s1 hm, ↓zt_s2 hm, ↓zt_s3 hm, ↓zt_s4 hm, ↓zt_s5 hm, ↓zt_s6 hm, ↓zt_s7 hm, ↓zt_s8 hm, ↓zt_s9 hm, ↓zt_s10 hm, ↓zt_s11 hm, ↓zt_s12 hm, ↓zt_s16 hm, ↓zt_s17 hm, ↓zt_s18 hm, ↓zt_s20 hm, ↓zt_s13 hm, ↓zt_s14 hm, ↓zt_s15 hm, ↓zt_s21 hm, ↓zt_l19, ↓zt_l17, forall_eq, ↓zqI_r, ↓zqL_r, ↓zqD_r, ↓zqF_r, ↓zqV_r, ↓zqR_r, ↓zqR_s, zboolb, zbool0, zbool1, true_and, and_true]
  refine zt_186 e1 hV hl hr ?_
  simp only [forall_eq, ↓zqI_r, ↓zqL_r, ↓zqD_r, ↓zqF_r, ↓zqV_r, ↓zqR_r, ↓zqR_s]
  exact h M' ((zt_pe.thr).kp hk (by omega) (by omega))
end ZT3
