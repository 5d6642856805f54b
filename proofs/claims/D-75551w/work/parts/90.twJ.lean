/-! THE REFERENCE: texts written, bytes fed -/
/-- digits from 10 ^ e on -/
def zs_dg (u : Nat) : Nat → List Int32
  | 0 => [nI (48 + u % 10)]
  | e + 1 => nI (48 + u / 10 ^ (e + 1) % 10) :: zs_dg u e
def zs_ex (u : Nat) : Nat := if u < 10 then 0 else if u < 100 then 1 else 2
def zs_num (v : Int) : List Int32 := (if v < 0 then [45] else []) ++ zs_dg v.natAbs (zs_ex v.natAbs)
def zs_mark (p r k : Nat) : Int32 := if p.testBit k then 80 else if r.testBit k then 82 else 46
def zs_marks (p r : Nat) : Nat → List Int32
  | 0 => []
  | k + 1 => zs_marks p r k ++ [zs_mark p r k]
def zs_fmt (V : zs_V) (p : Nat) : List Int32 := zs_marks p (zs_rep V true (zs_thr V) p) (zs_n V) ++ [32] ++ zs_num (zs_res V true (zs_thr V) p)
theorem zs_dg_len (u : Nat) : ∀ e, (zs_dg u e).length = e + 1
  | 0 => rfl
  | e + 1 => by simp [zs_dg, zs_dg_len u e]
theorem zs_marks_len (p r : Nat) : ∀ k, (zs_marks p r k).length = k
  | 0 => rfl
  | k + 1 => by simp [zs_marks, zs_marks_len p r k]
theorem zs_num_len (v : Int) : (zs_num v).length ≤ 4 := by
  unfold zs_num zs_ex
  rw [List.length_append, zs_dg_len]
  by_cases h : v < 0
  · rw [if_pos h]
    by_cases h1 : v.natAbs < 10
    · rw [if_pos h1]; simp
    · rw [if_neg h1]
      by_cases h2 : v.natAbs < 100
      · rw [if_pos h2]; simp
      · rw [if_neg h2]; simp
  · rw [if_neg h]
    by_cases h1 : v.natAbs < 10
    · rw [if_pos h1]; simp
    · rw [if_neg h1]
      by_cases h2 : v.natAbs < 100
      · rw [if_pos h2]; simp
      · rw [if_neg h2]; simp
theorem zn_div {a b : Nat} (ha : a < 2147483648) (hb : b < 2147483648) (hb0 : 0 < b) : nI a / nI b = nI (a / b) := by
  have h1 : (nI a / nI b).toInt = (a : Int).tdiv b := by
    rw [Int32.toInt_div_of_ne_left _ _ (by
      rw [ne_eq, fa_eq, nI_toInt ha]
      show ¬ (a : Int) = -2147483648
      omega), nI_toInt ha, nI_toInt hb]
  have h2 : a / b ≤ a := Nat.div_le_self _ _
  rw [fa_eq, h1, nI_toInt (by omega), Int.ofNat_tdiv]
section ZTJ
variable {G : zPg} {n : Nat} {σ : zS} {m : Nat} {N : Nat → Option Nat} {M M0 : zt_M} {Q : zQ} {Y : zY} {V : zs_V}
def zt_fm (l : List Int32) (M : zt_M) : Prop := M.1 26 = nI l.length ∧ ∀ i, i < l.length → M.2.2.1 17 i = l[i]!
def zt_fk (M M' : zt_M) : Prop := (∀ k, k ≠ 26 → M'.1 k = M.1 k) ∧ ∀ j, j ≠ 17 → M'.2.2.1 j = M.2.2.1 j
theorem zt_fk.rfl' : zt_fk M M := ⟨fun _ _ => rfl, fun _ _ => rfl⟩
theorem zt_fk.trans {M M' M'' : zt_M} (h : zt_fk M M') (h' : zt_fk M' M'') : zt_fk M M'' := ⟨fun k hk => (h'.1 k hk).trans (h.1 k hk), fun j hj => (h'.2 j hj).trans (h.2 j hj)⟩
theorem zt_255 (hm : G.1 ≤ m) {l : List Int32} (hl : zt_fm l M) (h20 : l.length < 20) {x : Int32} (h : ∀ M', zt_fk M M' → zt_fm (l ++ [x]) M' → Q none (zt_S σ m N M')) : zCall G (n + 1) 255 [.ref m, .int x] Q Y (zt_S σ m N M) := by
  refine (zl_255 hm).mpr ?_
  rw [hl.1, nI_cl (by omega), nI_1]
  refine ⟨nI_i (by omega) (by omega), h _ ⟨fun k hk => va_up_ne _ _ hk, fun j hj => va_up_ne _ _ hj⟩ ⟨?_, fun i hi => ?_⟩⟩
  · show va_up M.1 26 (nI (l.length + 1)) 26 = _
    rw [va_up_self]
    simp
  · show va_up (M.2.2.1 17) l.length x i = _
    by_cases e : i = l.length
    · subst e
      rw [va_up_self]
      simp
    · rw [va_up_ne _ _ e]
      have hi' : i < l.length := by
        simp at hi
        omega
      rw [hl.2 i hi', getElem!_pos l i hi', getElem!_pos (l ++ [x]) i hi, List.getElem_append_left hi']
theorem zt_256b (hm : G.1 ≤ m) {l1 L : List Int32} {u e : Nat} (hu : u ≤ 990) (he : e ≤ 2) (hl : zt_fm l1 M) (hcat : l1 ++ zs_dg u e = L) (hlen : l1.length + e ≤ 18) (h : ∀ M', zt_fk M M' → zt_fm L M' → Q none (zt_S σ m N M')) : ∃ n_1, zIt (fun _ _ => False) (fun rec12 (p10 : Int32) (s11 : zS) => ((p10 ≤ 0) → Q none s11) ∧ ((¬ p10 ≤ 0) → (¬ p10 = 0 ∧ (¬ (10 : Int32) = 0 ∧ zrc s11 (some m) 4 (fun a19 => zcl (zCall G (n + 1)) 255 [.ref a19, .int ((48 : Int32) + ((nI u / p10) - (nI u / p10) / (10 : Int32) * (10 : Int32)))] Y s11 (zqV (fun s17 => (¬ (10 : Int32) = 0 ∧ rec12 (p10 / (10 : Int32)) s17)))))))) n_1 (nI (10 ^ e)) (zt_S σ m N M) := by
  refine zl2 (fun (p : Int32) s => ∃ M2 l2, s = zt_S σ m N M2 ∧ zt_fk M M2 ∧ zt_fm l2 M2 ∧ ((∃ e', e' ≤ e ∧ p = nI (10 ^ e') ∧ l2 ++ zs_dg u e' = L ∧ l2.length + e' ≤ 18) ∨ (p = 0 ∧ l2 = L))) (fun p _ => p.toNatClampNeg) ?_ _ _ ⟨M, l1, rfl, zt_fk.rfl', hl, Or.inl ⟨e, Nat.le_refl _, rfl, hcat, hlen⟩⟩
  rintro rec2 p s ⟨M2, l2, rfl, hfk2, hfm2, hcase⟩ hrec2
  rcases hcase with ⟨e', he', rfl, hcat2, hlen⟩ | ⟨rfl, rfl⟩
  · have q10 : 0 < 10 ^ e' ∧ 10 ^ e' ≤ 100 := by
      rcases (show e' = 0 ∨ e' = 1 ∨ e' = 2 by omega) with rfl | rfl | rfl <;> decide
    have hle2 : u / 10 ^ e' ≤ u := Nat.div_le_self _ _
    have hle3 : u / 10 ^ e' / 10 ≤ u / 10 ^ e' := Nat.div_le_self _ _
    have edig : (48 : Int32) + (nI u / nI (10 ^ e') - nI u / nI (10 ^ e') / 10 * 10) = nI (48 + u / 10 ^ e' % 10) := by
      rw [zn_div (by omega) (by omega) q10.1]
      have h1 : nI (u / 10 ^ e') / (10 : Int32) = nI (u / 10 ^ e' / 10) := zn_div (b := 10) (by omega) (by omega) (by omega)
      rw [h1]
      show nI 48 + (nI (u / 10 ^ e') - nI (u / 10 ^ e' / 10) * nI 10) = _
      rw [zn_mul, zn_sub (by omega), nI_add]
      congr 1
      omega
    have ediv : nI (10 ^ e') / (10 : Int32) = nI (10 ^ e' / 10) := zn_div (b := 10) (by omega) (by omega) (by omega)
    refine ⟨fun h0 => absurd h0 (nI_nle q10.1 (by omega)), fun _ => ⟨nI_ne0 q10.1 (by omega), by decide, ?_⟩⟩
    rw [edig, ediv]
    refine zt_rc.mpr (zt_255 hm hfm2 (by omega) (fun M3 hfk3 hfm3 => ?_))
    simp only [forall_eq, ↓zqI_r, ↓zqL_r, ↓zqD_r, ↓zqF_r, ↓zqV_r, ↓zqR_r, ↓zqR_s]
    refine ⟨by decide, hrec2 _ _ ⟨M3, _, rfl, hfk2.trans hfk3, hfm3, ?_⟩ ?_⟩
    · cases e' with
      | zero =>
        right
        refine ⟨by decide, ?_⟩
        rw [← hcat2]
        simp [zs_dg]
      | succ e' =>
        left
        refine ⟨e', by omega, ?_, ?_, ?_⟩
        · rw [Nat.pow_succ, Nat.mul_div_cancel _ (by omega)]
        · rw [← hcat2]
          simp [zs_dg]
        · simp
          omega
    · rw [nI_cl (by omega), nI_cl (by omega)]
      omega
  · exact ⟨fun _ => h M2 hfk2 hfm2, fun h0 => absurd (by decide) h0⟩
theorem zt_256 (hm : G.1 ≤ m) {l : List Int32} (hl : zt_fm l M) (h20 : l.length ≤ 15) {v : Int} (hv : -990 ≤ v ∧ v ≤ 990) (h : ∀ M', zt_fk M M' → zt_fm (l ++ zs_num v) M' → Q none (zt_S σ m N M')) : zCall G (n + 2) 256 [.ref m, .int (iI v)] Q Y (zt_S σ m N M) := by
  have hu : v.natAbs ≤ 990 := by omega
  have eabs : ∀ {Q : zQ} {s : zS}, zCall G (n + 1) 298 [.int (iI v)] Q Y s ↔ Q (some (.int (nI v.natAbs))) s := by
    intro Q s
    rw [zc_eq (by decide) (b := zb298) rfl]
    simp only [zb298, forall_eq, List.cons.injEq, Value.ref.injEq, Value.int.injEq, Value.long.injEq, and_true, and_assoc, true_and, va_rf_iff, va_rf_iff2, exists_and_left, exists_eq_left', exists_eq_left, zJ]
    have e0 : (0 : Int32) ≤ iI v ↔ 0 ≤ v := by
      show iI 0 ≤ iI v ↔ _
      rw [iI_le (by omega) (by omega) (by omega) (by omega)]
    rw [e0, iI_neg]
    by_cases h : 0 ≤ v
    · rw [← iI_nat, show (v.natAbs : Int) = v by omega]
      simp only [h, not_true, false_implies, true_implies, and_true]
    · rw [← iI_nat, show (v.natAbs : Int) = -v by omega]
      simp only [h, not_false_eq_true, false_implies, true_implies, true_and]
  have e0 : (0 : Int32) ≤ iI v ↔ 0 ≤ v := by
    show iI 0 ≤ iI v ↔ _
    rw [iI_le (by omega) (by omega) (by omega) (by omega)]
  refine ze256 ⟨_, _, rfl, ?_⟩
  simp only [zJ, forall_eq, ↓zqI_r, ↓zqL_r, ↓zqD_r, ↓zqF_r, ↓zqV_r, ↓zqR_r, ↓zqR_s, ↓eabs, e0]
  have go : ∀ (l' : List Int32) (M1 : zt_M), zt_fk M M1 → zt_fm l' M1 → l'.length ≤ 16 → l' ++ zs_dg v.natAbs (zs_ex v.natAbs) = l ++ zs_num v → ∃ n_1, zIt (fun _ _ => False) (fun rec8 (p6 : Int32) (s7 : zS) => (¬ p6 = 0 ∧ (((nI v.natAbs / p6) ≤ (9 : Int32)) → ∃ n, zIt (fun _ _ => False) (fun rec12 (p10 : Int32) (s11 : zS) => ((p10 ≤ 0) → Q none s11) ∧ ((¬ p10 ≤ 0) → (¬ p10 = 0 ∧ (¬ (10 : Int32) = 0 ∧ zrc s11 (some m) 4 (fun a19 => zcl (zCall G (n + 1)) 255 [.ref a19, .int ((48 : Int32) + ((nI v.natAbs / p10) - (nI v.natAbs / p10) / (10 : Int32) * (10 : Int32)))] Y s11 (zqV (fun s17 => (¬ (10 : Int32) = 0 ∧ rec12 (p10 / (10 : Int32)) s17)))))))) n p6 s7) ∧ ((¬ (nI v.natAbs / p6) ≤ (9 : Int32)) → rec8 (p6 * (10 : Int32)) s7))) n_1 (1 : Int32) (zt_S σ m N M1) := by
    intro l' M1 hfk hfm hl16 hcat
    generalize hue : v.natAbs = u at *
    refine zl2 (fun (p : Int32) s => s = zt_S σ m N M1 ∧ ∃ e, e ≤ 2 ∧ p = nI (10 ^ e) ∧ (e = 0 ∨ 10 ^ e ≤ u)) (fun p _ => 1000 - p.toNatClampNeg) ?_ _ _ ⟨rfl, 0, by omega, rfl, Or.inl rfl⟩
    rintro rec p s ⟨rfl, e, he, rfl, hge⟩ hrec
    have p10 : 0 < 10 ^ e ∧ 10 ^ e ≤ 100 := by
      rcases (show e = 0 ∨ e = 1 ∨ e = 2 by omega) with rfl | rfl | rfl <;> decide
    have hne : ¬ nI (10 ^ e) = 0 := nI_ne0 p10.1 (by omega)
    have hle : u / 10 ^ e ≤ u := Nat.div_le_self _ _
    have h9 : nI (u / 10 ^ e) ≤ (9 : Int32) ↔ u / 10 ^ e ≤ 9 := nI_leI (b := 9) (by omega) (by omega)
    rw [zn_div (by omega) (by omega) p10.1, h9]
    refine ⟨hne, fun hlow => ?_, fun hhigh => ?_⟩
    · have hex : e = zs_ex u := by
        unfold zs_ex
        rcases (show e = 0 ∨ e = 1 ∨ e = 2 by omega) with rfl | rfl | rfl
        · rw [if_pos (by simp at hlow; omega)]
        · rw [if_neg (by simp at hge; omega), if_pos (by simp at hlow; omega)]
        · rw [if_neg (by simp at hge; omega), if_neg (by simp at hge; omega)]
      rw [← hex] at hcat
      exact zt_256b (n := n) (Y := Y) hm (by omega) (by omega) hfm hcat (by omega) (fun M2 a b => h M2 (hfk.trans a) b)
    · have he1 : e ≤ 1 := by
        rcases (show e = 0 ∨ e = 1 ∨ e = 2 by omega) with rfl | rfl | rfl
        · omega
        · omega
        · simp at hhigh
          omega
      have em : nI (10 ^ e) * (10 : Int32) = nI (10 ^ (e + 1)) := by
        show nI (10 ^ e) * nI 10 = _
        rw [zn_mul, Nat.pow_succ]
      rw [em]
      refine hrec _ _ ⟨rfl, e + 1, by omega, rfl, Or.inr ?_⟩ ?_
      · rcases (show e = 0 ∨ e = 1 by omega) with rfl | rfl
        · simp at hhigh ⊢
          omega
        · simp at hhigh ⊢
          omega
      · have : 10 ^ (e + 1) ≤ 100 := by
          rcases (show e = 0 ∨ e = 1 by omega) with rfl | rfl <;> decide
        have h2 : 10 ^ e < 10 ^ (e + 1) := Nat.pow_lt_pow_right (by omega) (by omega)
        rw [nI_cl (by omega), nI_cl (by omega)]
        omega
  refine ⟨fun hp => go l M zt_fk.rfl' hl (by omega) (by unfold zs_num; rw [if_neg (by omega)]; rfl), fun hp => ?_⟩
  refine zt_rc.mpr (zt_255 hm hl (by omega) (fun M1 hfk1 hfm1 => ?_))
  simp only [forall_eq, ↓zqI_r, ↓zqL_r, ↓zqD_r, ↓zqF_r, ↓zqV_r, ↓zqR_r, ↓zqR_s]
  exact go _ M1 hfk1 hfm1 (by simp; omega) (by unfold zs_num; rw [if_pos (by omega)]; simp)
end ZTJ
section ZTJ2
variable {G : zPg} {n : Nat} {σ : zS} {m : Nat} {N : Nat → Option Nat} {M M0 : zt_M} {Q : zQ} {Y : zY} {V : zs_V}
/-- what stays where a text is written -/
def zt_pf (t : Int32) (M M' : zt_M) : Prop := M'.1 5 = t ∧ (∀ k, k = 4 ∨ k = 6 ∨ k = 28 ∨ k = 35 → M'.1 k = M.1 k) ∧ ∀ j, j = 1 ∨ j = 3 ∨ j = 4 ∨ j = 18 → M'.2.2.1 j = M.2.2.1 j
theorem zt_pf.ofe {t : Int32} {M M' : zt_M} (h : zt_pe t M M') : zt_pf t M M' := ⟨h.1, fun k hk => h.2.1 k (by omega), fun j hj => h.2.2 j (by omega)⟩
theorem zt_pf.fk {t : Int32} {M M' M'' : zt_M} (h : zt_pf t M M') (h' : zt_fk M' M'') : zt_pf t M M'' := ⟨(h'.1 5 (by omega)).trans h.1, fun k hk => (h'.1 k (by omega)).trans (h.2.1 k hk), fun j hj => (h'.2 j (by omega)).trans (h.2.2 j hj)⟩
theorem zt_254 (hm : G.1 ≤ m) (hM : M.2.2.1 1 = V) (hV : zs_ok V) {x : Int32} (h1 : zs_isp V x → ∀ M', zt_pf 0 M M' → zt_fm (zs_fmt V x.toNatClampNeg) M' → Q (some (.int (nI (zs_fmt V x.toNatClampNeg).length))) (zt_S σ m N M')) (h0 : ¬ zs_isp V x → ∀ M', zt_pe 1 M M' → Q (some (.int 0)) (zt_S σ m N M')) : zCall G (n + 6) 254 [.ref m, .int x] Q Y (zt_S σ m N M) := by
  have hA := hV.all
  have hc := hV.c2
  have hn := hV.n0
  refine ze254 ⟨_, _, rfl, ?_⟩
  simp only [↓zt_rc, ↓zt_g0, ↓zt_g1, ↓zt_g2, ↓zt_g3, ↓zt_g4, ↓zt_g5, ↓zt_g6, ↓zt_g7, ↓zt_g8, ↓zt_g9, ↓zt_g10, ↓zt_g11, ↓zt_g12, ↓zt_g13, ↓zt_g14, ↓zt_g15, ↓zt_g16, ↓zt_g17, ↓zt_g18, ↓zt_g19, ↓zt_g20, ↓zt_g21, ↓zt_g22, ↓zt_g23, ↓zt_g24, ↓zt_g25, ↓zt_g26, ↓zt_g27, ↓zt_g28, ↓zt_g29, ↓zt_g30, ↓zt_g31, ↓zt_g32, ↓zt_g33, ↓zt_g34, ↓zt_g35, ↓zt_g36, ↓zt_g37, ↓zt_g38, ↓zt_g39, ↓zt_g40, ↓zt_p4 hm, ↓zt_p5 hm, ↓zt_p6 hm, ↓zt_p15 hm, ↓zt_p21 hm, ↓zt_p22 hm, ↓zt_p23 hm, ↓zt_p26 hm, ↓zt_p28 hm, ↓zt_p29 hm, ↓zt_p30 hm, ↓zt_p31 hm, ↓zt_p32 hm, ↓zt_p33 hm, ↓zt_p34 hm, ↓zt_p35 hm, ↓zt_p36 hm, ↓zt_p40 hm, ↓zt_p19 hm, ↓zt_p20 hm, ↓zt_a1, ↓zt_a2, ↓zt_a3, ↓zt_a4, ↓zt_a5, ↓zt_a6, ↓zt_a7, ↓zt_a8, ↓zt_a9, ↓zt_a10, ↓zt_a11, ↓zt_a12, ↓zt_a13, ↓zt_a14, ↓zt_a15, ↓zt_a16, ↓zt_a17, ↓zt_a18, ↓zt_a19, ↓zt_a20, ↓zt_a21, ↓zt_s1 hm, ↓zt_s2 hm, ↓zt_s3 hm, ↓zt_s4 hm, ↓zt_s5 hm, ↓zt_s6 hm, ↓zt_s7 hm, ↓zt_s8 hm, ↓zt_s9 hm, ↓zt_s10 hm, ↓zt_s11 hm, ↓zt_s12 hm, ↓zt_s16 hm, ↓zt_s17 hm, ↓zt_s18 hm, ↓zt_s20 hm, ↓zt_s13 hm, ↓zt_s14 hm, ↓zt_s15 hm, ↓zt_s21 hm, ↓zt_l19, ↓zt_l17, forall_eq, ↓zqI_r, ↓zqL_r, ↓zqD_r, ↓zqF_r, ↓zqV_r, ↓zqR_r, ↓zqR_s, zboolb, zbool0, zbool1, true_and, and_true]
  refine zt_171 (by exact hM) hV (fun hi => ?_) (fun hi => ?_)
  · simp only [↓zt_rc, ↓zt_g0, ↓zt_g1, ↓zt_g2, ↓zt_g3, ↓zt_g4, ↓zt_g5, ↓zt_g6, ↓zt_g7, ↓zt_g8, ↓zt_g9, ↓zt_g10, ↓zt_g11, ↓zt_g12, ↓zt_g13, ↓zt_g14, ↓zt_g15, ↓zt_g16, ↓zt_g17, ↓zt_g18, ↓zt_g19, ↓zt_g20, ↓zt_g21, ↓zt_g22, ↓zt_g23, ↓zt_g24, ↓zt_g25, ↓zt_g26, ↓zt_g27, ↓zt_g28, ↓zt_g29, ↓zt_g30, ↓zt_g31, ↓zt_g32, ↓zt_g33, ↓zt_g34, ↓zt_g35, ↓zt_g36, ↓zt_g37, ↓zt_g38, ↓zt_g39, ↓zt_g40, ↓zt_p4 hm, ↓zt_p5 hm, ↓zt_p6 hm, ↓zt_p15 hm, ↓zt_p21 hm, ↓zt_p22 hm, ↓zt_p23 hm, ↓zt_p26 hm, ↓zt_p28 hm, ↓zt_p29 hm, ↓zt_p30 hm, ↓zt_p31 hm, ↓zt_p32 hm, ↓zt_p33 hm, ↓zt_p34 hm, ↓zt_p35 hm, ↓zt_p36 hm, ↓zt_p40 hm, ↓zt_p19 hm, ↓zt_p20 hm, ↓zt_a1, ↓zt_a2, ↓zt_a3, ↓zt_a4, ↓zt_a5, ↓zt_a6, ↓zt_a7, ↓zt_a8, ↓zt_a9, ↓zt_a10, ↓zt_a11, ↓zt_a12, ↓zt_a13, ↓zt_a14, ↓zt_a15, ↓zt_a16, ↓zt_a17, ↓zt_a18, ↓zt_a19, ↓zt_a20, ↓zt_a21, ↓zt_s1 hm, ↓zt_s2 hm, ↓zt_s3 hm, ↓zt_s4 hm, ↓zt_s5 hm, ↓zt_s6 hm, ↓zt_s7 hm, ↓zt_s8 hm, ↓zt_s9 hm, ↓zt_s10 hm, ↓zt_s11 hm, ↓zt_s12 hm, ↓zt_s16 hm, ↓zt_s17 hm, ↓zt_s18 hm, ↓zt_s20 hm, ↓zt_s13 hm, ↓zt_s14 hm, ↓zt_s15 hm, ↓zt_s21 hm, ↓zt_l19, ↓zt_l17, forall_eq, ↓zqI_r, ↓zqL_r, ↓zqD_r, ↓zqF_r, ↓zqV_r, ↓zqR_r, ↓zqR_s, zboolb, zbool0, zbool1, true_and, and_true]
    refine ⟨fun _ => ?_, fun h9 => absurd h9 (by decide)⟩
    refine zt_172 hm (by exact hM) hV (fun M1 hk hl => ?_)
    have e1 : M1.2.2.1 1 = V := (hk.2.2.2 1 (by omega)).trans hM
    have hpe1 : zt_pe 0 M M1 := (zt_pe.thr).kp hk (by omega) (by omega)
    simp only [↓zt_rc, ↓zt_g0, ↓zt_g1, ↓zt_g2, ↓zt_g3, ↓zt_g4, ↓zt_g5, ↓zt_g6, ↓zt_g7, ↓zt_g8, ↓zt_g9, ↓zt_g10, ↓zt_g11, ↓zt_g12, ↓zt_g13, ↓zt_g14, ↓zt_g15, ↓zt_g16, ↓zt_g17, ↓zt_g18, ↓zt_g19, ↓zt_g20, ↓zt_g21, ↓zt_g22, ↓zt_g23, ↓zt_g24, ↓zt_g25, ↓zt_g26, ↓zt_g27, ↓zt_g28, ↓zt_g29, ↓zt_g30, ↓zt_g31, ↓zt_g32, ↓zt_g33, ↓zt_g34, ↓zt_g35, ↓zt_g36, ↓zt_g37, ↓zt_g38, ↓zt_g39, ↓zt_g40, ↓zt_p4 hm, ↓zt_p5 hm, ↓zt_p6 hm, ↓zt_p15 hm, ↓zt_p21 hm, ↓zt_p22 hm, ↓zt_p23 hm, ↓zt_p26 hm, ↓zt_p28 hm, ↓zt_p29 hm, ↓zt_p30 hm, ↓zt_p31 hm, ↓zt_p32 hm, ↓zt_p33 hm, ↓zt_p34 hm, ↓zt_p35 hm, ↓zt_p36 hm, ↓zt_p40 hm, ↓zt_p19 hm, ↓zt_p20 hm, ↓zt_a1, ↓zt_a2, ↓zt_a3, ↓zt_a4, ↓zt_a5, ↓zt_a6, ↓zt_a7, ↓zt_a8, ↓zt_a9, ↓zt_a10, ↓zt_a11, ↓zt_a12, ↓zt_a13, ↓zt_a14, ↓zt_a15, ↓zt_a16, ↓zt_a17, ↓zt_a18, ↓zt_a19, ↓zt_a20, ↓zt_a21, ↓zt_s1 hm, ↓zt_s2 hm, ↓zt_s3 hm, ↓zt_s4 hm, ↓zt_s5 hm, ↓zt_s6 hm, ↓zt_s7 hm, ↓zt_s8 hm, ↓zt_s9 hm, ↓zt_s10 hm, ↓zt_s11 hm, ↓zt_s12 hm, ↓zt_s16 hm, ↓zt_s17 hm, ↓zt_s18 hm, ↓zt_s20 hm, ↓zt_s13 hm, ↓zt_s14 hm, ↓zt_s15 hm, ↓zt_s21 hm, ↓zt_l19, ↓zt_l17, forall_eq, ↓zqI_r, ↓zqL_r, ↓zqD_r, ↓zqF_r, ↓zqV_r, ↓zqR_r, ↓zqR_s, zboolb, zbool0, zbool1, true_and, and_true, zi_0, zj_0, zi_1, zj_1, zi_2, zj_2, zi_3, zj_3, zi_4, zj_4, zi_5, zj_5, zi_6, zj_6, zi_7, zj_7, zi_8, zj_8, zi_9, zj_9, zi_10, zj_10, true_and, and_true, e1]
    obtain ⟨s, hs, rfl⟩ : ∃ s : Nat, s < zs_all V ∧ x = nI s := by
      obtain ⟨s, hs, e⟩ := nI_of (x := x) (by rw [fa_lt]; have := hi.1; have : (0 : Int32).toInt = 0 := rfl; omega)
      have h2 := hi.2.1
      rw [e, nI_toInt hs] at h2
      exact ⟨s, by omega, e⟩
    rw [nI_cl (by omega)] at h1
    have h1 := h1 hi
    refine zt_173 (g := true) e1 hV hl hs (x := V 2) (by unfold zs_thr at hc; omega) ?_
    rw [show (V 2).toInt = zs_thr V from rfl]
    have hrl := zs_rep_lt hV (g := true) (t := zs_thr V) (p := s)
    have hrb := zs_res_b hV (g := true) (t := zs_thr V) (p := s)
    unfold zs_fmt at h1
    have eres : zs_res V true (zs_thr V) s = zs_w V 1 s - zs_w V 3 (zs_rep V true (zs_thr V) s) := rfl
    rw [eres] at h1 hrb
    generalize zs_rep V true (zs_thr V) s = r at *
    have h6 : M1.2.2.1 6 s = iI (zs_w V 1 s) := hl 1 (by omega) s hs
    have h8 : M1.2.2.1 8 r = iI (zs_w V 3 r) := hl 3 (by omega) r hrl
    simp only [↓zt_rc, ↓zt_g0, ↓zt_g1, ↓zt_g2, ↓zt_g3, ↓zt_g4, ↓zt_g5, ↓zt_g6, ↓zt_g7, ↓zt_g8, ↓zt_g9, ↓zt_g10, ↓zt_g11, ↓zt_g12, ↓zt_g13, ↓zt_g14, ↓zt_g15, ↓zt_g16, ↓zt_g17, ↓zt_g18, ↓zt_g19, ↓zt_g20, ↓zt_g21, ↓zt_g22, ↓zt_g23, ↓zt_g24, ↓zt_g25, ↓zt_g26, ↓zt_g27, ↓zt_g28, ↓zt_g29, ↓zt_g30, ↓zt_g31, ↓zt_g32, ↓zt_g33, ↓zt_g34, ↓zt_g35, ↓zt_g36, ↓zt_g37, ↓zt_g38, ↓zt_g39, ↓zt_g40, ↓zt_p4 hm, ↓zt_p5 hm, ↓zt_p6 hm, ↓zt_p15 hm, ↓zt_p21 hm, ↓zt_p22 hm, ↓zt_p23 hm, ↓zt_p26 hm, ↓zt_p28 hm, ↓zt_p29 hm, ↓zt_p30 hm, ↓zt_p31 hm, ↓zt_p32 hm, ↓zt_p33 hm, ↓zt_p34 hm, ↓zt_p35 hm, ↓zt_p36 hm, ↓zt_p40 hm, ↓zt_p19 hm, ↓zt_p20 hm, ↓zt_a1, ↓zt_a2, ↓zt_a3, ↓zt_a4, ↓zt_a5, ↓zt_a6, ↓zt_a7, ↓zt_a8, ↓zt_a9, ↓zt_a10, ↓zt_a11, ↓zt_a12, ↓zt_a13, ↓zt_a14, ↓zt_a15, ↓zt_a16, ↓zt_a17, ↓zt_a18, ↓zt_a19, ↓zt_a20, ↓zt_a21, ↓zt_s1 hm, ↓zt_s2 hm, ↓zt_s3 hm, ↓zt_s4 hm, ↓zt_s5 hm, ↓zt_s6 hm, ↓zt_s7 hm, ↓zt_s8 hm, ↓zt_s9 hm, ↓zt_s10 hm, ↓zt_s11 hm, ↓zt_s12 hm, ↓zt_s16 hm, ↓zt_s17 hm, ↓zt_s18 hm, ↓zt_s20 hm, ↓zt_s13 hm, ↓zt_s14 hm, ↓zt_s15 hm, ↓zt_s21 hm, ↓zt_l19, ↓zt_l17, forall_eq, ↓zqI_r, ↓zqL_r, ↓zqD_r, ↓zqF_r, ↓zqV_r, ↓zqR_r, ↓zqR_s, zboolb, zbool0, zbool1, true_and, and_true]
    refine zf2 0 (zs_n V) (fun k s' => ∃ M', s' = zt_S σ m N M' ∧ zt_fk M1 M' ∧ zt_fm (zs_marks s r k) M') (by omega) ?_ ?_ ⟨_, rfl, ⟨fun k hk => va_up_ne _ _ hk, fun _ _ => rfl⟩, ⟨rfl, fun i hi => absurd hi (by simp [zs_marks])⟩⟩
    · rintro rec k s' _ hk ⟨M2, rfl, hfk, hfm⟩ hrec
      have e2 : M2.2.2.1 1 = V := (hfk.2 1 (by omega)).trans e1
      have hml := zs_marks_len s r k
      have go : ∀ c : Int32, c = zs_mark s r k → zCall G (n + 5) 255 [.ref m, .int c] (zqV (fun s116 => rec (nI k + 1) s116)) Y (zt_S σ m N M2) := by
        intro c hc
        refine zt_255 (n := n + 4) hm hfm (by omega) (fun M3 hfk3 hfm3 => ?_)
        simp only [forall_eq, ↓zqI_r, ↓zqL_r, ↓zqD_r, ↓zqF_r, ↓zqV_r, ↓zqR_r, ↓zqR_s]
        refine hrec _ ⟨M3, rfl, hfk.trans hfk3, ?_⟩
        simp only [zs_marks]
        rw [← hc]
        exact hfm3
      simp only [↓zt_rc, ↓zt_g0, ↓zt_g1, ↓zt_g2, ↓zt_g3, ↓zt_g4, ↓zt_g5, ↓zt_g6, ↓zt_g7, ↓zt_g8, ↓zt_g9, ↓zt_g10, ↓zt_g11, ↓zt_g12, ↓zt_g13, ↓zt_g14, ↓zt_g15, ↓zt_g16, ↓zt_g17, ↓zt_g18, ↓zt_g19, ↓zt_g20, ↓zt_g21, ↓zt_g22, ↓zt_g23, ↓zt_g24, ↓zt_g25, ↓zt_g26, ↓zt_g27, ↓zt_g28, ↓zt_g29, ↓zt_g30, ↓zt_g31, ↓zt_g32, ↓zt_g33, ↓zt_g34, ↓zt_g35, ↓zt_g36, ↓zt_g37, ↓zt_g38, ↓zt_g39, ↓zt_g40, ↓zt_p4 hm, ↓zt_p5 hm, ↓zt_p6 hm, ↓zt_p15 hm, ↓zt_p21 hm, ↓zt_p22 hm, ↓zt_p23 hm, ↓zt_p26 hm, ↓zt_p28 hm, ↓zt_p29 hm, ↓zt_p30 hm, ↓zt_p31 hm, ↓zt_p32 hm, ↓zt_p33 hm, ↓zt_p34 hm, ↓zt_p35 hm, ↓zt_p36 hm, ↓zt_p40 hm, ↓zt_p19 hm, ↓zt_p20 hm, ↓zt_a1, ↓zt_a2, ↓zt_a3, ↓zt_a4, ↓zt_a5, ↓zt_a6, ↓zt_a7, ↓zt_a8, ↓zt_a9, ↓zt_a10, ↓zt_a11, ↓zt_a12, ↓zt_a13, ↓zt_a14, ↓zt_a15, ↓zt_a16, ↓zt_a17, ↓zt_a18, ↓zt_a19, ↓zt_a20, ↓zt_a21, ↓zt_s1 hm, ↓zt_s2 hm, ↓zt_s3 hm, ↓zt_s4 hm, ↓zt_s5 hm, ↓zt_s6 hm, ↓zt_s7 hm, ↓zt_s8 hm, ↓zt_s9 hm, ↓zt_s10 hm, ↓zt_s11 hm, ↓zt_s12 hm, ↓zt_s16 hm, ↓zt_s17 hm, ↓zt_s18 hm, ↓zt_s20 hm, ↓zt_s13 hm, ↓zt_s14 hm, ↓zt_s15 hm, ↓zt_s21 hm, ↓zt_l19, ↓zt_l17, forall_eq, ↓zqI_r, ↓zqL_r, ↓zqD_r, ↓zqF_r, ↓zqV_r, ↓zqR_r, ↓zqR_s, zboolb, zbool0, zbool1, true_and, and_true, ↓zl_159, zJ, e2, hn.1, zn_bit (show s < 2147483648 by omega) (show k < 32 by omega), zn_bit (show r < 2147483648 by omega) (show k < 32 by omega)]
      refine ⟨fun hle => absurd hle (nI_ge hk (by omega)), fun _ => ⟨fun hb => ⟨fun hb2 => go _ ?_, fun hb2 => go _ ?_⟩, fun hb => go _ ?_⟩⟩
      · unfold zs_mark; rw [if_neg hb, if_neg hb2]
      · unfold zs_mark; rw [if_neg hb, if_pos hb2]
      · unfold zs_mark; rw [if_pos hb]
    · rintro rec s' ⟨M2, rfl, hfk, hfm⟩
      have e2 : M2.2.2.1 1 = V := (hfk.2 1 (by omega)).trans e1
      have hml := zs_marks_len s r (zs_n V)
      simp only [↓zt_rc, ↓zt_g0, ↓zt_g1, ↓zt_g2, ↓zt_g3, ↓zt_g4, ↓zt_g5, ↓zt_g6, ↓zt_g7, ↓zt_g8, ↓zt_g9, ↓zt_g10, ↓zt_g11, ↓zt_g12, ↓zt_g13, ↓zt_g14, ↓zt_g15, ↓zt_g16, ↓zt_g17, ↓zt_g18, ↓zt_g19, ↓zt_g20, ↓zt_g21, ↓zt_g22, ↓zt_g23, ↓zt_g24, ↓zt_g25, ↓zt_g26, ↓zt_g27, ↓zt_g28, ↓zt_g29, ↓zt_g30, ↓zt_g31, ↓zt_g32, ↓zt_g33, ↓zt_g34, ↓zt_g35, ↓zt_g36, ↓zt_g37, ↓zt_g38, ↓zt_g39, ↓zt_g40, ↓zt_p4 hm, ↓zt_p5 hm, ↓zt_p6 hm, ↓zt_p15 hm, ↓zt_p21 hm, ↓zt_p22 hm, ↓zt_p23 hm, ↓zt_p26 hm, ↓zt_p28 hm, ↓zt_p29 hm, ↓zt_p30 hm, ↓zt_p31 hm, ↓zt_p32 hm, ↓zt_p33 hm, ↓zt_p34 hm, ↓zt_p35 hm, ↓zt_p36 hm, ↓zt_p40 hm, ↓zt_p19 hm, ↓zt_p20 hm, ↓zt_a1, ↓zt_a2, ↓zt_a3, ↓zt_a4, ↓zt_a5, ↓zt_a6, ↓zt_a7, ↓zt_a8, ↓zt_a9, ↓zt_a10, ↓zt_a11, ↓zt_a12, ↓zt_a13, ↓zt_a14, ↓zt_a15, ↓zt_a16, ↓zt_a17, ↓zt_a18, ↓zt_a19, ↓zt_a20, ↓zt_a21, ↓zt_s1 hm, ↓zt_s2 hm, ↓zt_s3 hm, ↓zt_s4 hm, ↓zt_s5 hm, ↓zt_s6 hm, ↓zt_s7 hm, ↓zt_s8 hm, ↓zt_s9 hm, ↓zt_s10 hm, ↓zt_s11 hm, ↓zt_s12 hm, ↓zt_s16 hm, ↓zt_s17 hm, ↓zt_s18 hm, ↓zt_s20 hm, ↓zt_s13 hm, ↓zt_s14 hm, ↓zt_s15 hm, ↓zt_s21 hm, ↓zt_l19, ↓zt_l17, forall_eq, ↓zqI_r, ↓zqL_r, ↓zqD_r, ↓zqF_r, ↓zqV_r, ↓zqR_r, ↓zqR_s, zboolb, zbool0, zbool1, true_and, and_true, ↓zl_159, e2, hn.1]
      refine ⟨fun _ => ?_, fun hn => absurd (nI_le (Nat.le_refl _) (by omega)) hn⟩
      refine zt_255 hm hfm (by omega) (fun M3 hfk3 hfm3 => ?_)
      have g6 : M3.2.2.1 6 s = iI (zs_w V 1 s) := by rw [hfk3.2 6 (by omega), hfk.2 6 (by omega)]; exact h6
      have g8 : M3.2.2.1 8 r = iI (zs_w V 3 r) := by rw [hfk3.2 8 (by omega), hfk.2 8 (by omega)]; exact h8
      simp only [↓zt_rc, ↓zt_g0, ↓zt_g1, ↓zt_g2, ↓zt_g3, ↓zt_g4, ↓zt_g5, ↓zt_g6, ↓zt_g7, ↓zt_g8, ↓zt_g9, ↓zt_g10, ↓zt_g11, ↓zt_g12, ↓zt_g13, ↓zt_g14, ↓zt_g15, ↓zt_g16, ↓zt_g17, ↓zt_g18, ↓zt_g19, ↓zt_g20, ↓zt_g21, ↓zt_g22, ↓zt_g23, ↓zt_g24, ↓zt_g25, ↓zt_g26, ↓zt_g27, ↓zt_g28, ↓zt_g29, ↓zt_g30, ↓zt_g31, ↓zt_g32, ↓zt_g33, ↓zt_g34, ↓zt_g35, ↓zt_g36, ↓zt_g37, ↓zt_g38, ↓zt_g39, ↓zt_g40, ↓zt_p4 hm, ↓zt_p5 hm, ↓zt_p6 hm, ↓zt_p15 hm, ↓zt_p21 hm, ↓zt_p22 hm, ↓zt_p23 hm, ↓zt_p26 hm, ↓zt_p28 hm, ↓zt_p29 hm, ↓zt_p30 hm, ↓zt_p31 hm, ↓zt_p32 hm, ↓zt_p33 hm, ↓zt_p34 hm, ↓zt_p35 hm, ↓zt_p36 hm, ↓zt_p40 hm, ↓zt_p19 hm, ↓zt_p20 hm, ↓zt_a1, ↓zt_a2, ↓zt_a3, ↓zt_a4, ↓zt_a5, ↓zt_a6, ↓zt_a7, ↓zt_a8, ↓zt_a9, ↓zt_a10, ↓zt_a11, ↓zt_a12, ↓zt_a13, ↓zt_a14, ↓zt_a15, ↓zt_a16, ↓zt_a17, ↓zt_a18, ↓zt_a19, ↓zt_a20, ↓zt_a21, ↓zt_s1 hm, ↓zt_s2 hm, ↓zt_s3 hm, ↓zt_s4 hm, ↓zt_s5 hm, ↓zt_s6 hm, ↓zt_s7 hm, ↓zt_s8 hm, ↓zt_s9 hm, ↓zt_s10 hm, ↓zt_s11 hm, ↓zt_s12 hm, ↓zt_s16 hm, ↓zt_s17 hm, ↓zt_s18 hm, ↓zt_s20 hm, ↓zt_s13 hm, ↓zt_s14 hm, ↓zt_s15 hm, ↓zt_s21 hm, ↓zt_l19, ↓zt_l17, forall_eq, ↓zqI_r, ↓zqL_r, ↓zqD_r, ↓zqF_r, ↓zqV_r, ↓zqR_r, ↓zqR_s, zboolb, zbool0, zbool1, true_and, and_true, nI_cl (show s < 2147483648 by omega), nI_cl (show r < 2147483648 by omega), g6, g8, iI_sub]
      refine ⟨nI_i (by omega) (by omega), nI_i (by omega) (by omega), ?_⟩
      refine zt_256 hm hfm3 (by simp; omega) hrb (fun M4 hfk4 hfm4 => ?_)
      simp only [↓zt_rc, ↓zt_g0, ↓zt_g1, ↓zt_g2, ↓zt_g3, ↓zt_g4, ↓zt_g5, ↓zt_g6, ↓zt_g7, ↓zt_g8, ↓zt_g9, ↓zt_g10, ↓zt_g11, ↓zt_g12, ↓zt_g13, ↓zt_g14, ↓zt_g15, ↓zt_g16, ↓zt_g17, ↓zt_g18, ↓zt_g19, ↓zt_g20, ↓zt_g21, ↓zt_g22, ↓zt_g23, ↓zt_g24, ↓zt_g25, ↓zt_g26, ↓zt_g27, ↓zt_g28, ↓zt_g29, ↓zt_g30, ↓zt_g31, ↓zt_g32, ↓zt_g33, ↓zt_g34, ↓zt_g35, ↓zt_g36, ↓zt_g37, ↓zt_g38, ↓zt_g39, ↓zt_g40, ↓zt_p4 hm, ↓zt_p5 hm, ↓zt_p6 hm, ↓zt_p15 hm, ↓zt_p21 hm, ↓zt_p22 hm, ↓zt_p23 hm, ↓zt_p26 hm, ↓zt_p28 hm, ↓zt_p29 hm, ↓zt_p30 hm, ↓zt_p31 hm, ↓zt_p32 hm, ↓zt_p33 hm, ↓zt_p34 hm, ↓zt_p35 hm, ↓zt_p36 hm, ↓zt_p40 hm, ↓zt_p19 hm, ↓zt_p20 hm, ↓zt_a1, ↓zt_a2, ↓zt_a3, ↓zt_a4, ↓zt_a5, ↓zt_a6, ↓zt_a7, ↓zt_a8, ↓zt_a9, ↓zt_a10, ↓zt_a11, ↓zt_a12, ↓zt_a13, ↓zt_a14, ↓zt_a15, ↓zt_a16, ↓zt_a17, ↓zt_a18, ↓zt_a19, ↓zt_a20, ↓zt_a21, ↓zt_s1 hm, ↓zt_s2 hm, ↓zt_s3 hm, ↓zt_s4 hm, ↓zt_s5 hm, ↓zt_s6 hm, ↓zt_s7 hm, ↓zt_s8 hm, ↓zt_s9 hm, ↓zt_s10 hm, ↓zt_s11 hm, ↓zt_s12 hm, ↓zt_s16 hm, ↓zt_s17 hm, ↓zt_s18 hm, ↓zt_s20 hm, ↓zt_s13 hm, ↓zt_s14 hm, ↓zt_s15 hm, ↓zt_s21 hm, ↓zt_l19, ↓zt_l17, forall_eq, ↓zqI_r, ↓zqL_r, ↓zqD_r, ↓zqF_r, ↓zqV_r, ↓zqR_r, ↓zqR_s, zboolb, zbool0, zbool1, true_and, and_true, hfm4.1]
      exact h1 M4 ((((zt_pf.ofe hpe1).fk hfk).fk hfk3).fk hfk4) hfm4
  · simp only [↓zt_rc, ↓zt_g0, ↓zt_g1, ↓zt_g2, ↓zt_g3, ↓zt_g4, ↓zt_g5, ↓zt_g6, ↓zt_g7, ↓zt_g8, ↓zt_g9, ↓zt_g10, ↓zt_g11, ↓zt_g12, ↓zt_g13, ↓zt_g14, ↓zt_g15, ↓zt_g16, ↓zt_g17, ↓zt_g18, ↓zt_g19, ↓zt_g20, ↓zt_g21, ↓zt_g22, ↓zt_g23, ↓zt_g24, ↓zt_g25, ↓zt_g26, ↓zt_g27, ↓zt_g28, ↓zt_g29, ↓zt_g30, ↓zt_g31, ↓zt_g32, ↓zt_g33, ↓zt_g34, ↓zt_g35, ↓zt_g36, ↓zt_g37, ↓zt_g38, ↓zt_g39, ↓zt_g40, ↓zt_p4 hm, ↓zt_p5 hm, ↓zt_p6 hm, ↓zt_p15 hm, ↓zt_p21 hm, ↓zt_p22 hm, ↓zt_p23 hm, ↓zt_p26 hm, ↓zt_p28 hm, ↓zt_p29 hm, ↓zt_p30 hm, ↓zt_p31 hm, ↓zt_p32 hm, ↓zt_p33 hm, ↓zt_p34 hm, ↓zt_p35 hm, ↓zt_p36 hm, ↓zt_p40 hm, ↓zt_p19 hm, ↓zt_p20 hm, ↓zt_a1, ↓zt_a2, ↓zt_a3, ↓zt_a4, ↓zt_a5, ↓zt_a6, ↓zt_a7, ↓zt_a8, ↓zt_a9, ↓zt_a10, ↓zt_a11, ↓zt_a12, ↓zt_a13, ↓zt_a14, ↓zt_a15, ↓zt_a16, ↓zt_a17, ↓zt_a18, ↓zt_a19, ↓zt_a20, ↓zt_a21, ↓zt_s1 hm, ↓zt_s2 hm, ↓zt_s3 hm, ↓zt_s4 hm, ↓zt_s5 hm, ↓zt_s6 hm, ↓zt_s7 hm, ↓zt_s8 hm, ↓zt_s9 hm, ↓zt_s10 hm, ↓zt_s11 hm, ↓zt_s12 hm, ↓zt_s16 hm, ↓zt_s17 hm, ↓zt_s18 hm, ↓zt_s20 hm, ↓zt_s13 hm, ↓zt_s14 hm, ↓zt_s15 hm, ↓zt_s21 hm, ↓zt_l19, ↓zt_l17, forall_eq, ↓zqI_r, ↓zqL_r, ↓zqD_r, ↓zqF_r, ↓zqV_r, ↓zqR_r, ↓zqR_s, zboolb, zbool0, zbool1, true_and, and_true, ↓zl_163 hm]
    refine ⟨fun h9 => absurd trivial h9, fun _ => ?_⟩
    exact h0 hi _ (zt_pe.re zt_pe.thr)
theorem zt_257 (hm : G.1 ≤ m) {l : List Int32} (hl : zt_fm l M) (h20 : l.length ≤ 20) {x : Int32} (h : ∀ M', zt_pe 0 M M' → Q (some (.int (if 0 ≤ x.toInt ∧ x.toInt < l.length then l[x.toNatClampNeg]! else -1))) (zt_S σ m N M')) : zCall G (n + 2) 257 [.ref m, .int x] Q Y (zt_S σ m N M) := by
  refine ze257 ⟨_, _, rfl, ?_⟩
  have e26 : va_up M.1 5 0 26 = nI l.length := (va_up_ne _ _ (by omega)).trans hl.1
  have ec : (0 ≤ x ∧ x ≤ nI l.length - 1) ↔ (0 ≤ x.toInt ∧ x.toInt < l.length) := by
    have : nI l.length - 1 = iI ((l.length : Int) - 1) := by
      show iI l.length - iI 1 = _
      rw [iI_sub]
    rw [this, fa_le, fa_le, iI_to (by omega) (by omega)]
    show 0 ≤ x.toInt ∧ _ ↔ _
    omega
  simp only [↓zt_rc, ↓zt_g0, ↓zt_g1, ↓zt_g2, ↓zt_g3, ↓zt_g4, ↓zt_g5, ↓zt_g6, ↓zt_g7, ↓zt_g8, ↓zt_g9, ↓zt_g10, ↓zt_g11, ↓zt_g12, ↓zt_g13, ↓zt_g14, ↓zt_g15, ↓zt_g16, ↓zt_g17, ↓zt_g18, ↓zt_g19, ↓zt_g20, ↓zt_g21, ↓zt_g22, ↓zt_g23, ↓zt_g24, ↓zt_g25, ↓zt_g26, ↓zt_g27, ↓zt_g28, ↓zt_g29, ↓zt_g30, ↓zt_g31, ↓zt_g32, ↓zt_g33, ↓zt_g34, ↓zt_g35, ↓zt_g36, ↓zt_g37, ↓zt_g38, ↓zt_g39, ↓zt_g40, ↓zt_p4 hm, ↓zt_p5 hm, ↓zt_p6 hm, ↓zt_p15 hm, ↓zt_p21 hm, ↓zt_p22 hm, ↓zt_p23 hm, ↓zt_p26 hm, ↓zt_p28 hm, ↓zt_p29 hm, ↓zt_p30 hm, ↓zt_p31 hm, ↓zt_p32 hm, ↓zt_p33 hm, ↓zt_p34 hm, ↓zt_p35 hm, ↓zt_p36 hm, ↓zt_p40 hm, ↓zt_p19 hm, ↓zt_p20 hm, ↓zt_a1, ↓zt_a2, ↓zt_a3, ↓zt_a4, ↓zt_a5, ↓zt_a6, ↓zt_a7, ↓zt_a8, ↓zt_a9, ↓zt_a10, ↓zt_a11, ↓zt_a12, ↓zt_a13, ↓zt_a14, ↓zt_a15, ↓zt_a16, ↓zt_a17, ↓zt_a18, ↓zt_a19, ↓zt_a20, ↓zt_a21, ↓zt_s1 hm, ↓zt_s2 hm, ↓zt_s3 hm, ↓zt_s4 hm, ↓zt_s5 hm, ↓zt_s6 hm, ↓zt_s7 hm, ↓zt_s8 hm, ↓zt_s9 hm, ↓zt_s10 hm, ↓zt_s11 hm, ↓zt_s12 hm, ↓zt_s16 hm, ↓zt_s17 hm, ↓zt_s18 hm, ↓zt_s20 hm, ↓zt_s13 hm, ↓zt_s14 hm, ↓zt_s15 hm, ↓zt_s21 hm, ↓zt_l19, ↓zt_l17, forall_eq, ↓zqI_r, ↓zqL_r, ↓zqD_r, ↓zqF_r, ↓zqV_r, ↓zqR_r, ↓zqR_s, zboolb, zbool0, zbool1, true_and, and_true, ↓zl_166, zJ, e26, zs_b0, Classical.not_not, ec]
  refine ⟨fun hn => ?_, fun hi => ?_⟩
  · rw [if_neg hn] at h
    exact h _ zt_pe.thr
  · rw [if_pos hi] at h
    have e : x = nI x.toInt.toNat := by rw [← iI_nat, show ((x.toInt.toNat : Nat) : Int) = x.toInt by omega, iI_of]
    have e2 : x.toNatClampNeg = x.toInt.toNat := by
      conv => lhs; rw [e]
      rw [nI_cl (by omega)]
    rw [e2] at h ⊢
    rw [hl.2 _ (by omega)]
    refine ⟨?_, h _ zt_pe.thr⟩
    rw [e]
    exact nI_i (by omega) (by omega)
/-- the bytes that are fed -/
def zs_fb (a b c d e : Int32) (k : Nat) : Int32 := ((if k < 4 then a else if k < 8 then b else if k < 12 then c else if k < 16 then d else e) >>> ((24 - nI (8 * (k % 4))) &&& 31)) &&& 255
theorem zt_262 (hm : G.1 ≤ m) {L : Nat} (hL : M.1 28 = nI L) (hL5 : L ≤ 500) {a b c d e : Int32} (h1 : L + 20 ≤ 500 → ∀ M', M'.1 5 = 0 → (∀ k, k = 4 ∨ k = 6 ∨ k = 26 ∨ k = 35 → M'.1 k = M.1 k) → M'.1 28 = nI (L + 20) → (∀ j, j = 1 ∨ j = 3 ∨ j = 4 ∨ j = 17 → M'.2.2.1 j = M.2.2.1 j) → (∀ i, M'.2.2.1 18 i = if L ≤ i ∧ i < L + 20 then zs_fb a b c d e (i - L) else M.2.2.1 18 i) → Q (some (.int (nI (L + 20)))) (zt_S σ m N M')) (h0 : ¬ L + 20 ≤ 500 → ∀ M', zt_pe 0 M M' → Q (some (.int (-1))) (zt_S σ m N M')) : zCall G (n + 1) 262 [.ref m, .int a, .int b, .int c, .int d, .int e] Q Y (zt_S σ m N M) := by
  refine ze262 ⟨_, _, _, _, _, _, rfl, ?_⟩
  have e28 : va_up M.1 5 0 28 = nI L := (va_up_ne _ _ (by omega)).trans hL
  have ec : nI L + 20 ≤ 500 ↔ L + 20 ≤ 500 := by
    show nI L + nI 20 ≤ nI 500 ↔ _
    rw [nI_add, nI_leI (by omega) (by omega)]
  simp only [↓zt_rc, ↓zt_g0, ↓zt_g1, ↓zt_g2, ↓zt_g3, ↓zt_g4, ↓zt_g5, ↓zt_g6, ↓zt_g7, ↓zt_g8, ↓zt_g9, ↓zt_g10, ↓zt_g11, ↓zt_g12, ↓zt_g13, ↓zt_g14, ↓zt_g15, ↓zt_g16, ↓zt_g17, ↓zt_g18, ↓zt_g19, ↓zt_g20, ↓zt_g21, ↓zt_g22, ↓zt_g23, ↓zt_g24, ↓zt_g25, ↓zt_g26, ↓zt_g27, ↓zt_g28, ↓zt_g29, ↓zt_g30, ↓zt_g31, ↓zt_g32, ↓zt_g33, ↓zt_g34, ↓zt_g35, ↓zt_g36, ↓zt_g37, ↓zt_g38, ↓zt_g39, ↓zt_g40, ↓zt_p4 hm, ↓zt_p5 hm, ↓zt_p6 hm, ↓zt_p15 hm, ↓zt_p21 hm, ↓zt_p22 hm, ↓zt_p23 hm, ↓zt_p26 hm, ↓zt_p28 hm, ↓zt_p29 hm, ↓zt_p30 hm, ↓zt_p31 hm, ↓zt_p32 hm, ↓zt_p33 hm, ↓zt_p34 hm, ↓zt_p35 hm, ↓zt_p36 hm, ↓zt_p40 hm, ↓zt_p19 hm, ↓zt_p20 hm, ↓zt_a1, ↓zt_a2, ↓zt_a3, ↓zt_a4, ↓zt_a5, ↓zt_a6, ↓zt_a7, ↓zt_a8, ↓zt_a9, ↓zt_a10, ↓zt_a11, ↓zt_a12, ↓zt_a13, ↓zt_a14, ↓zt_a15, ↓zt_a16, ↓zt_a17, ↓zt_a18, ↓zt_a19, ↓zt_a20, ↓zt_a21, ↓zt_s1 hm, ↓zt_s2 hm, ↓zt_s3 hm, ↓zt_s4 hm, ↓zt_s5 hm, ↓zt_s6 hm, ↓zt_s7 hm, ↓zt_s8 hm, ↓zt_s9 hm, ↓zt_s10 hm, ↓zt_s11 hm, ↓zt_s12 hm, ↓zt_s16 hm, ↓zt_s17 hm, ↓zt_s18 hm, ↓zt_s20 hm, ↓zt_s13 hm, ↓zt_s14 hm, ↓zt_s15 hm, ↓zt_s21 hm, ↓zt_l19, ↓zt_l17, forall_eq, ↓zqI_r, ↓zqL_r, ↓zqD_r, ↓zqF_r, ↓zqV_r, ↓zqR_r, ↓zqR_s, zboolb, zbool0, zbool1, true_and, and_true, e28, ec]
  refine ⟨fun hle => ?_, fun hn => h0 hn _ zt_pe.thr⟩
  refine zf2 0 20 (fun q s' => ∃ M', s' = zt_S σ m N M' ∧ M'.1 5 = 0 ∧ (∀ k, k = 4 ∨ k = 6 ∨ k = 26 ∨ k = 35 → M'.1 k = M.1 k) ∧ M'.1 28 = nI (L + q) ∧ (∀ j, j = 1 ∨ j = 3 ∨ j = 4 ∨ j = 17 → M'.2.2.1 j = M.2.2.1 j) ∧ (∀ i, M'.2.2.1 18 i = if L ≤ i ∧ i < L + q then zs_fb a b c d e (i - L) else M.2.2.1 18 i)) (by omega) ?_ ?_ ⟨M.sI 5 0, rfl, rfl, fun k hk => va_up_ne _ _ (by omega), e28, fun _ _ => rfl, fun i => by rw [if_neg (by omega)]⟩
  · rintro rec q s' _ hq ⟨M1, rfl, a1, a2, a3, a4, a5⟩ hrec
    refine ⟨fun h9 => absurd h9 (nI_ge (b := 20) hq (by omega)), fun _ => ?_⟩
    have em : nI q - nI q / 4 * 4 = nI (q % 4) := pk_rem (d := 4) (by omega) (by omega) (by omega)
    have e8 : (8 : Int32) * nI (q % 4) = nI (8 * (q % 4)) := zn_mul 8 _
    have go : ∀ x : Int32, x = (if q < 4 then a else if q < 8 then b else if q < 12 then c else if q < 16 then d else e) → zgR (zt_S σ m N M1) (some m) 4 27 (fun v29 => zgI (zt_S σ m N M1) (some m) 4 28 (fun v35 => (¬ (4 : Int32) = 0 ∧ zsI (zt_S σ m N M1) G.1 0 v29 v35 ((x >>> (((24 : Int32) - ((8 : Int32) * (nI q - nI q / (4 : Int32) * (4 : Int32)))) &&& 31)) &&& (255 : Int32)) (fun s52 => zgI s52 (some m) 4 28 (fun v54 => zput s52 G.1 (some m) 4 28 (.int (v54 + (1 : Int32))) (fun s60 => rec (nI q + 1) s60)))))) := by
      intro x hx
      simp only [↓zt_rc, ↓zt_g0, ↓zt_g1, ↓zt_g2, ↓zt_g3, ↓zt_g4, ↓zt_g5, ↓zt_g6, ↓zt_g7, ↓zt_g8, ↓zt_g9, ↓zt_g10, ↓zt_g11, ↓zt_g12, ↓zt_g13, ↓zt_g14, ↓zt_g15, ↓zt_g16, ↓zt_g17, ↓zt_g18, ↓zt_g19, ↓zt_g20, ↓zt_g21, ↓zt_g22, ↓zt_g23, ↓zt_g24, ↓zt_g25, ↓zt_g26, ↓zt_g27, ↓zt_g28, ↓zt_g29, ↓zt_g30, ↓zt_g31, ↓zt_g32, ↓zt_g33, ↓zt_g34, ↓zt_g35, ↓zt_g36, ↓zt_g37, ↓zt_g38, ↓zt_g39, ↓zt_g40, ↓zt_p4 hm, ↓zt_p5 hm, ↓zt_p6 hm, ↓zt_p15 hm, ↓zt_p21 hm, ↓zt_p22 hm, ↓zt_p23 hm, ↓zt_p26 hm, ↓zt_p28 hm, ↓zt_p29 hm, ↓zt_p30 hm, ↓zt_p31 hm, ↓zt_p32 hm, ↓zt_p33 hm, ↓zt_p34 hm, ↓zt_p35 hm, ↓zt_p36 hm, ↓zt_p40 hm, ↓zt_p19 hm, ↓zt_p20 hm, ↓zt_a1, ↓zt_a2, ↓zt_a3, ↓zt_a4, ↓zt_a5, ↓zt_a6, ↓zt_a7, ↓zt_a8, ↓zt_a9, ↓zt_a10, ↓zt_a11, ↓zt_a12, ↓zt_a13, ↓zt_a14, ↓zt_a15, ↓zt_a16, ↓zt_a17, ↓zt_a18, ↓zt_a19, ↓zt_a20, ↓zt_a21, ↓zt_s1 hm, ↓zt_s2 hm, ↓zt_s3 hm, ↓zt_s4 hm, ↓zt_s5 hm, ↓zt_s6 hm, ↓zt_s7 hm, ↓zt_s8 hm, ↓zt_s9 hm, ↓zt_s10 hm, ↓zt_s11 hm, ↓zt_s12 hm, ↓zt_s16 hm, ↓zt_s17 hm, ↓zt_s18 hm, ↓zt_s20 hm, ↓zt_s13 hm, ↓zt_s14 hm, ↓zt_s15 hm, ↓zt_s21 hm, ↓zt_l19, ↓zt_l17, forall_eq, ↓zqI_r, ↓zqL_r, ↓zqD_r, ↓zqF_r, ↓zqV_r, ↓zqR_r, ↓zqR_s, zboolb, zbool0, zbool1, true_and, and_true, a3, em, e8, nI_cl (show L + q < 2147483648 by omega), nI_1]
      refine ⟨by decide, nI_i (by omega) (by omega), ?_⟩
      have := hrec (zt_S σ m N ((M1.sA 18 (va_up (M1.2.2.1 18) (L + q) ((x >>> (((24 : Int32) - nI (8 * (q % 4))) &&& 31)) &&& 255))).sI 28 (nI (L + q + 1)))) ⟨_, rfl, ?_, ?_, rfl, ?_, ?_⟩
      · rw [nI_1] at this
        exact this
      · show va_up M1.1 28 (nI (L + q + 1)) 5 = 0
        rw [va_up_ne _ _ (by omega)]
        exact a1
      · intro k hk
        show va_up M1.1 28 (nI (L + q + 1)) k = _
        rw [va_up_ne _ _ (by omega)]
        exact a2 k hk
      · intro j hj
        exact (va_up_ne _ _ (by omega)).trans (a4 j hj)
      · intro i
        show va_up (M1.2.2.1 18) (L + q) _ i = _
        by_cases ei : i = L + q
        · subst ei
          rw [va_up_self, if_pos (show L ≤ L + q ∧ L + q < L + (q + 1) by omega), show L + q - L = q by omega]
          unfold zs_fb
          rw [hx]
        · rw [va_up_ne _ _ ei, a5 i]
          by_cases h2 : L ≤ i ∧ i < L + q
          · rw [if_pos h2, if_pos (by omega)]
          · rw [if_neg h2, if_neg (by omega)]
    have c4 : (4 : Int32) ≤ nI q ↔ 4 ≤ q := nI_leI (a := 4) (by omega) (by omega)
    have c8 : (8 : Int32) ≤ nI q ↔ 8 ≤ q := nI_leI (a := 8) (by omega) (by omega)
    have c12 : (12 : Int32) ≤ nI q ↔ 12 ≤ q := nI_leI (a := 12) (by omega) (by omega)
    have c16 : (16 : Int32) ≤ nI q ↔ 16 ≤ q := nI_leI (a := 16) (by omega) (by omega)
    simp only [zJ, forall_eq, ↓zqI_r, ↓zqL_r, ↓zqD_r, ↓zqF_r, ↓zqV_r, ↓zqR_r, ↓zqR_s, c4, c8, c12, c16]
    refine ⟨fun g1 => ⟨fun g2 => ⟨fun g3 => ⟨fun g4 => go _ ?_, fun g4 => go _ ?_⟩, fun g3 => go _ ?_⟩, fun g2 => go _ ?_⟩, fun g1 => go _ ?_⟩
    · rw [if_neg (by omega), if_neg (by omega), if_neg (by omega), if_neg (by omega)]
    · rw [if_neg (by omega), if_neg (by omega), if_neg (by omega), if_pos (by omega)]
    · rw [if_neg (by omega), if_neg (by omega), if_pos (by omega)]
    · rw [if_neg (by omega), if_pos (by omega)]
    · rw [if_pos (by omega)]
  · rintro rec s' ⟨M1, rfl, a1, a2, a3, a4, a5⟩
    simp only [↓zt_rc, ↓zt_g0, ↓zt_g1, ↓zt_g2, ↓zt_g3, ↓zt_g4, ↓zt_g5, ↓zt_g6, ↓zt_g7, ↓zt_g8, ↓zt_g9, ↓zt_g10, ↓zt_g11, ↓zt_g12, ↓zt_g13, ↓zt_g14, ↓zt_g15, ↓zt_g16, ↓zt_g17, ↓zt_g18, ↓zt_g19, ↓zt_g20, ↓zt_g21, ↓zt_g22, ↓zt_g23, ↓zt_g24, ↓zt_g25, ↓zt_g26, ↓zt_g27, ↓zt_g28, ↓zt_g29, ↓zt_g30, ↓zt_g31, ↓zt_g32, ↓zt_g33, ↓zt_g34, ↓zt_g35, ↓zt_g36, ↓zt_g37, ↓zt_g38, ↓zt_g39, ↓zt_g40, ↓zt_p4 hm, ↓zt_p5 hm, ↓zt_p6 hm, ↓zt_p15 hm, ↓zt_p21 hm, ↓zt_p22 hm, ↓zt_p23 hm, ↓zt_p26 hm, ↓zt_p28 hm, ↓zt_p29 hm, ↓zt_p30 hm, ↓zt_p31 hm, ↓zt_p32 hm, ↓zt_p33 hm, ↓zt_p34 hm, ↓zt_p35 hm, ↓zt_p36 hm, ↓zt_p40 hm, ↓zt_p19 hm, ↓zt_p20 hm, ↓zt_a1, ↓zt_a2, ↓zt_a3, ↓zt_a4, ↓zt_a5, ↓zt_a6, ↓zt_a7, ↓zt_a8, ↓zt_a9, ↓zt_a10, ↓zt_a11, ↓zt_a12, ↓zt_a13, ↓zt_a14, ↓zt_a15, ↓zt_a16, ↓zt_a17, ↓zt_a18, ↓zt_a19, ↓zt_a20, ↓zt_a21, ↓zt_s1 hm, ↓zt_s2 hm, ↓zt_s3 hm, ↓zt_s4 hm, ↓zt_s5 hm, ↓zt_s6 hm, ↓zt_s7 hm, ↓zt_s8 hm, ↓zt_s9 hm, ↓zt_s10 hm, ↓zt_s11 hm, ↓zt_s12 hm, ↓zt_s16 hm, ↓zt_s17 hm, ↓zt_s18 hm, ↓zt_s20 hm, ↓zt_s13 hm, ↓zt_s14 hm, ↓zt_s15 hm, ↓zt_s21 hm, ↓zt_l19, ↓zt_l17, forall_eq, ↓zqI_r, ↓zqL_r, ↓zqD_r, ↓zqF_r, ↓zqV_r, ↓zqR_r, ↓zqR_s, zboolb, zbool0, zbool1, true_and, and_true, a3]
    exact ⟨fun _ => h1 hle M1 a1 a2 a3 a4 a5, fun h9 => absurd (nI_le (Nat.le_refl 20) (by omega)) h9⟩
end ZTJ2
