/-! THE REFERENCE: meanResult, safeShare -/
def zs_sr (V : zs_V) : Nat → Int
  | 0 => 0
  | k + 1 => zs_sr V k + (if zs_w V 0 k ≤ zs_cap V then zs_res V true (zs_thr V) k else 0)
theorem zs_sr_b {V : zs_V} (h : zs_ok V) : ∀ k : Nat, -990 * (k : Int) ≤ zs_sr V k ∧ zs_sr V k ≤ 990 * (k : Int)
  | 0 => by simp [zs_sr]
  | k + 1 => by
    have h1 := zs_sr_b h k
    have h2 := zs_res_b h (g := true) (t := zs_thr V) (p := k)
    simp only [zs_sr]
    by_cases hb : zs_w V 0 k ≤ zs_cap V
    · rw [if_pos hb]; omega
    · rw [if_neg hb]; omega
theorem zs_ct_mono (c : Nat → Prop) [DecidablePred c] {a : Nat} : ∀ b : Nat, a ≤ b → zs_ct c a ≤ zs_ct c b
  | 0, h => by rw [show a = 0 by omega]; exact Nat.le_refl _
  | b + 1, h => by
    by_cases e : a = b + 1
    · rw [e]; exact Nat.le_refl _
    · have := zs_ct_mono c (a := a) b (by omega)
      simp only [zs_ct]
      omega
theorem zs_pm_b {V : zs_V} (h : zs_ok V) : 1 ≤ zs_pm V ∧ zs_pm V ≤ 1024 := by
  have hA := h.all
  have h0 : zs_w V 0 0 ≤ zs_cap V := zs_fit0 h
  have h1 := zs_ct_le (fun s => zs_w V 0 s ≤ zs_cap V) (zs_all V)
  have h2 := zs_ct_mono (fun s => zs_w V 0 s ≤ zs_cap V) (a := 1) (zs_all V) hA.1
  have h3 : zs_ct (fun s => zs_w V 0 s ≤ zs_cap V) 1 = 1 := by
    show 0 + (if zs_w V 0 0 ≤ zs_cap V then 1 else 0) = 1
    rw [if_pos h0]
  unfold zs_pm
  omega
def zs_mean (V : zs_V) : UInt64 := FP.ddiv (FP.i2d (iI (zs_sr V (zs_all V)))) (FP.i2d (nI (zs_pm V)))
def zs_sf (V : zs_V) (k : Nat) : Nat := zs_ct (fun p => zs_w V 0 p ≤ zs_cap V ∧ zs_rep V true (zs_thr V) p = 0) k
def zs_shr (V : zs_V) : UInt32 := FP.fdiv (FP.i2f (nI (zs_sf V (zs_all V)))) (FP.i2f (nI (zs_pm V)))
theorem zs_mean_n {V : zs_V} (h : zs_ok V) : vf_n64 (zs_mean V) := by
  have hA := h.all
  have h1 := zs_sr_b h (zs_all V)
  have h2 := zs_pm_b h
  refine zf_ddiv ?_ ?_ ?_
  · rw [iI_to (by omega) (by omega)]; omega
  · rw [nI_toInt (by omega)]; omega
  · rw [nI_toInt (by omega)]; omega
theorem zs_shr_n {V : zs_V} (h : zs_ok V) : vf_n32 (zs_shr V) := by
  have hA := h.all
  have h1 := zs_ct_le (fun p => zs_w V 0 p ≤ zs_cap V ∧ zs_rep V true (zs_thr V) p = 0) (zs_all V)
  have h2 := zs_pm_b h
  have h3 : zs_sf V (zs_all V) ≤ 1024 := by unfold zs_sf; omega
  refine zf_fdiv ?_ ?_ ?_
  · rw [nI_toInt (by omega)]; omega
  · rw [nI_toInt (by omega)]; omega
  · rw [nI_toInt (by omega)]; omega
section ZTF
variable {G : zPg} {n : Nat} {σ : zS} {m : Nat} {N : Nat → Option Nat} {M : zt_M} {Q : zQ} {Y : zY} {V : zs_V}
theorem zt_232 (hm : G.1 ≤ m) (hM : M.2.2.1 1 = V) (hV : zs_ok V) (h : ∀ M', zt_pe 0 M M' → Q (some (.double (zs_mean V))) (zt_S σ m N M')) : zCall G (n + 6) 232 [.ref m] Q Y (zt_S σ m N M) := by
  have hA := hV.all
  refine ze232 ⟨_, rfl, ?_⟩
  simp only [↓zt_p5 hm, ↓zt_rc]
  have hM1 : (M.sI 5 0).2.2.1 1 = V := hM
  refine zt_177 hm hM1 hV fun M1 k1 k2 k3 => zqV_r.mpr ?_
  have hpe : zt_pe 0 M M1 := zt_pe.thr.kp k1 (by omega) (by omega)
  have h1V := hpe.V hM
  refine zf3 0 (zs_all V) (fun k (x : Int32) s' => s' = zt_S σ m N M1 ∧ x = iI (zs_sr V k)) (by omega) ?_ ?_ ⟨rfl, rfl⟩
  · rintro rec q x s' _ hq ⟨rfl, rfl⟩ hrec
    simp only [↓zt_rc, ↓zl_159, forall_eq, ↓zqI_r, ↓zqL_r, ↓zqD_r, ↓zqF_r, ↓zqV_r, ↓zqR_r, ↓zqR_s]
    rw [zl_shl h1V hV]
    refine ⟨fun hle => absurd hle (nI_ge hq (by omega)), fun _ => (zl_fit h1V hV k2 hq).mpr (zqI_r.mpr ?_)⟩
    simp only [zs_b0, Classical.not_not]
    refine zJ_go (fun (j : Int32 → zS → Prop) => ∀ y, iI (zs_sr V q) + y = iI (zs_sr V (q + 1)) → j y (zt_S σ m N M1)) ?_ ?_
    · intro y hy
      exact hrec _ _ ⟨rfl, hy⟩
    · intro j hj
      refine ⟨fun hn => hj 0 ?_, fun hf => ?_⟩
      · simp only [zs_sr, if_neg hn]
        show iI _ + iI 0 = _
        rw [iI_add]
      · simp only [↓zt_rc]
        refine (zl_res hV k2 k3 hq).mpr (zqI_r.mpr (hj _ ?_))
        simp only [zs_sr, if_pos hf]
        rw [zs_rs_fit hf, iI_add]
  · rintro rec x s' ⟨rfl, rfl⟩
    simp only [↓zt_rc, ↓zl_159, forall_eq, ↓zqI_r, ↓zqL_r, ↓zqD_r, ↓zqF_r, ↓zqV_r, ↓zqR_r, ↓zqR_s]
    rw [zl_shl h1V hV]
    refine ⟨fun _ => zt_158 h1V hV (zqI_r.mpr ⟨zs_mean_n hV, h M1 hpe⟩), fun hn => absurd (nI_le (Nat.le_refl _) (by omega)) hn⟩
theorem zt_233 (hm : G.1 ≤ m) (hM : M.2.2.1 1 = V) (hV : zs_ok V) (h : ∀ M', zt_pe 0 M M' → Q (some (.float (zs_shr V))) (zt_S σ m N M')) : zCall G (n + 6) 233 [.ref m] Q Y (zt_S σ m N M) := by
  have hA := hV.all
  refine ze233 ⟨_, rfl, ?_⟩
  simp only [↓zt_p5 hm, ↓zt_rc]
  have hM1 : (M.sI 5 0).2.2.1 1 = V := hM
  refine zt_177 hm hM1 hV fun M1 k1 k2 k3 => zqV_r.mpr ?_
  have hpe : zt_pe 0 M M1 := zt_pe.thr.kp k1 (by omega) (by omega)
  have h1V := hpe.V hM
  refine zf3 0 (zs_all V) (fun k (x : Int32) s' => s' = zt_S σ m N M1 ∧ x = nI (zs_sf V k)) (by omega) ?_ ?_ ⟨rfl, rfl⟩
  · rintro rec q x s' _ hq ⟨rfl, rfl⟩ hrec
    simp only [↓zt_rc, ↓zl_159, forall_eq, ↓zqI_r, ↓zqL_r, ↓zqD_r, ↓zqF_r, ↓zqV_r, ↓zqR_r, ↓zqR_s]
    rw [zl_shl h1V hV]
    refine ⟨fun hle => absurd hle (nI_ge hq (by omega)), fun _ => (zl_fit h1V hV k2 hq).mpr (zqI_r.mpr ?_)⟩
    simp only [zs_b0, Classical.not_not]
    have h9 := k3 q hq
    have no : ¬ (zs_w V 0 q ≤ zs_cap V ∧ zs_rep V true (zs_thr V) q = 0) → nI (zs_sf V q) + 0 = nI (zs_sf V (q + 1)) := by
      intro hn
      show _ + nI 0 = _
      rw [nI_add]
      unfold zs_sf
      simp only [zs_ct, if_neg hn]
    refine zJ_go (fun (j : Int32 → zS → Prop) => ∀ y, nI (zs_sf V q) + y = nI (zs_sf V (q + 1)) → j y (zt_S σ m N M1)) ?_ ?_
    · intro y hy
      exact hrec _ _ ⟨rfl, hy⟩
    · intro j hj
      refine zJ_go (fun (j' : zS → Prop) => ¬ (zs_w V 0 q ≤ zs_cap V ∧ zs_rep V true (zs_thr V) q = 0) → j' (zt_S σ m N M1)) (fun hn => hj 0 (no hn)) ?_
      intro j' hj'
      refine ⟨fun hn => hj' fun h8 => hn h8.1, fun hf => ?_⟩
      rw [if_pos hf] at h9
      have hlt := zs_rep_lt hV (g := true) (t := zs_thr V) (p := q)
      have ez : nI (zs_rep V true (zs_thr V) q) = 0 ↔ zs_rep V true (zs_thr V) q = 0 := by
        show _ = nI 0 ↔ _
        rw [nI_eq (by omega) (by omega)]
      simp only [↓zt_rc, ↓zt_g0, ↓zt_g1, ↓zt_g2, ↓zt_g3, ↓zt_g4, ↓zt_g5, ↓zt_g6, ↓zt_g7, ↓zt_g8, ↓zt_g9, ↓zt_g10, ↓zt_g11, ↓zt_g12, ↓zt_g13, ↓zt_g14, ↓zt_g15, ↓zt_g16, ↓zt_g17, ↓zt_g18, ↓zt_g19, ↓zt_g20, ↓zt_g21, ↓zt_g22, ↓zt_g23, ↓zt_g24, ↓zt_g25, ↓zt_g26, ↓zt_g27, ↓zt_g28, ↓zt_g29, ↓zt_g30, ↓zt_g31, ↓zt_g32, ↓zt_g33, ↓zt_g34, ↓zt_g35, ↓zt_g36, ↓zt_g37, ↓zt_g38, ↓zt_g39, ↓zt_g40, ↓zt_p4 hm, ↓zt_p5 hm, ↓zt_p6 hm, ↓zt_p15 hm, ↓zt_p21 hm, ↓zt_p22 hm, ↓zt_p23 hm, ↓zt_p26 hm, ↓zt_p28 hm, ↓zt_p29 hm, ↓zt_p30 hm, ↓zt_p31 hm, ↓zt_p32 hm, ↓zt_p33 hm, ↓zt_p34 hm, ↓zt_p35 hm, ↓zt_p36 hm, ↓zt_p40 hm, ↓zt_p19 hm, ↓zt_p20 hm, ↓zt_a1, ↓zt_a2, ↓zt_a3, ↓zt_a4, ↓zt_a5, ↓zt_a6, ↓zt_a7, ↓zt_a8, ↓zt_a9, ↓zt_a10, ↓zt_a11, ↓zt_a12, ↓zt_a13, ↓zt_a14, ↓zt_a15, ↓zt_a16, ↓zt_a17, ↓zt_a18, ↓zt_a19, ↓zt_a20, ↓zt_a21, ↓zt_s1 hm, ↓zt_s2 hm, ↓zt_s3 hm, ↓zt_s4 hm, ↓zt_s5 hm, ↓zt_s6 hm, ↓zt_s7 hm, ↓zt_s8 hm, ↓zt_s9 hm, ↓zt_s10 hm, ↓zt_s11 hm, ↓zt_s12 hm, ↓zt_s16 hm, ↓zt_s17 hm, ↓zt_s18 hm, ↓zt_s20 hm, ↓zt_s13 hm, ↓zt_s14 hm, ↓zt_s15 hm, ↓zt_s21 hm, ↓zt_l19, ↓zt_l17, forall_eq, ↓zqI_r, ↓zqL_r, ↓zqD_r, ↓zqF_r, ↓zqV_r, ↓zqR_r, ↓zqR_s, zboolb, zbool0, zbool1, true_and, and_true, nI_cl (show q < 2147483648 by omega), h9, ez]
      refine ⟨nI_i (by omega) (by omega), fun hn => hj' fun h8 => hn h8.2, fun hz => hj 1 ?_⟩
      show _ + nI 1 = _
      rw [nI_add]
      unfold zs_sf
      have hc : zs_w V 0 q ≤ zs_cap V ∧ zs_rep V true (zs_thr V) q = 0 := ⟨hf, hz⟩
      simp only [zs_ct, if_pos hc]
  · rintro rec x s' ⟨rfl, rfl⟩
    simp only [↓zt_rc, ↓zl_159, forall_eq, ↓zqI_r, ↓zqL_r, ↓zqD_r, ↓zqF_r, ↓zqV_r, ↓zqR_r, ↓zqR_s]
    rw [zl_shl h1V hV]
    refine ⟨fun _ => zt_158 h1V hV (zqI_r.mpr ⟨zs_shr_n hV, h M1 hpe⟩), fun hn => absurd (nI_le (Nat.le_refl _) (by omega)) hn⟩
end ZTF
