/-! THE REFERENCE: queries: running the codes -/
def zq_st (V : zs_V) (p : Nat) (c : Int32) (st : List Int64) : Option (List Int64) :=
  if c = -23 then (match st with | x :: t => some ((1 - x) :: t) | [] => none)
  else if c ≤ -20 then (match st with | y :: x :: t => if c = -20 ∨ c = -21 ∨ c = -22 ∨ c = -24 ∨ c = -25 then some (zq_op c x y :: t) else none | _ => none)
  else if c < 0 then (if (-1 - c).toNatClampNeg < 9 then some ((zq_pr V p (-1 - c).toNatClampNeg).toInt64 :: st) else none)
  else some (c.toInt64 :: st)
def zq_rn (V : zs_V) (p : Nat) : List Int32 → List Int64 → Option (List Int64)
  | [], st => some st
  | c :: l, st => (zq_st V p c st).bind (zq_rn V p l)
theorem zq_rn_app {V : zs_V} {p : Nat} : ∀ (l l' : List Int32) (st : List Int64), zq_rn V p (l ++ l') st = (zq_rn V p l st).bind (zq_rn V p l')
  | [], l', st => rfl
  | c :: l, l', st => by
    show (zq_st V p c st).bind (zq_rn V p (l ++ l')) = ((zq_st V p c st).bind (zq_rn V p l)).bind (zq_rn V p l')
    cases zq_st V p c st with
    | none => rfl
    | some st' => exact zq_rn_app l l' st'
/-- a stack as it lies -/
def zq_ly (f : Nat → Int64) : List Int64 → Prop
  | [] => True
  | x :: t => f t.length = x ∧ zq_ly f t
theorem zq_ly_up {f : Nat → Int64} {i : Nat} {x : Int64} : ∀ {st : List Int64}, st.length ≤ i → zq_ly f st → zq_ly (va_up f i x) st
  | [], _, _ => trivial
  | y :: t, h, h' => by
    have h : t.length + 1 ≤ i := h
    exact ⟨by rw [va_up_ne _ _ (by omega)]; exact h'.1, zq_ly_up (by omega) h'.2⟩
theorem zq_ly_push {f : Nat → Int64} {x : Int64} {st : List Int64} {i : Nat} (hi : i = st.length) (h : zq_ly f st) : zq_ly (va_up f i x) (x :: st) := by
  subst hi
  exact ⟨va_up_self f st.length x, zq_ly_up (Nat.le_refl _) h⟩
def zt_hk (M M' : zt_M) : Prop := M'.1 = M.1 ∧ M'.2.1 = M.2.1 ∧ M'.2.2.1 = M.2.2.1 ∧ ∀ j, j ≠ 21 → M'.2.2.2 j = M.2.2.2 j
section ZQR
variable {G : zPg} {n : Nat} {σ : zS} {m : Nat} {N : Nat → Option Nat} {M M' M'' : zt_M} {Q : zQ} {Y : zY} {V : zs_V}
theorem zt_hk.rfl' : zt_hk M M := ⟨rfl, rfl, rfl, fun _ _ => rfl⟩
theorem zt_hk.trans (h : zt_hk M M') (h' : zt_hk M' M'') : zt_hk M M'' := ⟨h'.1.trans h.1, h'.2.1.trans h.2.1, h'.2.2.1.trans h.2.2.1, fun j hj => (h'.2.2.2 j hj).trans (h.2.2.2 j hj)⟩
theorem zt_hk.b {f : Nat → Int64} : zt_hk M (M.sB 21 f) := ⟨rfl, rfl, rfl, fun j hj => va_up_ne _ _ hj⟩
theorem lc_eq1 (x : Int64) : lg_cmp x 1 = 0 ↔ x = 1 := by
  have h := lc_cases x 1
  rcases h with ⟨h1, h2⟩ | ⟨h1, h2⟩ | ⟨h1, h2⟩
  · rw [h1]
    refine ⟨fun e => absurd e (by decide), fun e => ?_⟩
    rw [e] at h2
    omega
  · rw [h1]
    exact ⟨fun _ => Int64.toInt_inj.mp h2, fun _ => rfl⟩
  · rw [h1]
    refine ⟨fun e => absurd e (by decide), fun e => ?_⟩
    rw [e] at h2
    omega
theorem zt_292 (hm : G.1 ≤ m) (hM : M.2.2.1 1 = V) (hV : zs_ok V) (hl : zt_ly V M (zs_all V)) (hr : zt_lr V true (zs_thr V) M (zs_all V)) {p : Nat} (hp : p < zs_all V) {cs : List Int32} (hc : zt_cd cs M) (hcl : cs.length ≤ 200) {x : Int64} (hx : zq_rn V p cs [] = some [x]) (h : ∀ M', zt_hk M M' → Q (some (.int (zs_b (x = 1)))) (zt_S σ m N M')) : zCall G (n + 3) 292 [.ref m, .int (nI p)] Q Y (zt_S σ m N M) := by
  refine ze292 ⟨_, _, rfl, ?_⟩
  refine zf3 0 cs.length (fun k (x1 : Int32) s' => ∃ M1 st, s' = zt_S σ m N M1 ∧ zt_hk M M1 ∧ x1 = nI st.length ∧ st.length ≤ k ∧ zq_ly (M1.2.2.2 21) st ∧ zq_rn V p (cs.drop k) st = some [x]) (by omega) ?_ ?_ ⟨M, [], rfl, zt_hk.rfl', rfl, Nat.le_refl _, trivial, hx⟩
  · rintro rec k x1 s' _ hk ⟨M1, st, rfl, a1, rfl, a3, a4, a5⟩ hrec
    have e40 : M1.1 40 = nI cs.length := by rw [a1.1]; exact hc.1
    have e20 : M1.2.2.1 20 k = cs[k]! := by rw [a1.2.2.1]; exact hc.2 k hk
    have hk2 : (nI k).toNatClampNeg = k := nI_cl (by omega)
    have ed : cs.drop k = cs[k]! :: cs.drop (k + 1) := by
      rw [List.drop_eq_getElem_cons hk]
      rw [getElem!_pos cs k hk]
    rw [ed] at a5
    simp only [↓zt_rc, ↓zt_g0, ↓zt_g1, ↓zt_g2, ↓zt_g3, ↓zt_g4, ↓zt_g5, ↓zt_g6, ↓zt_g7, ↓zt_g8, ↓zt_g9, ↓zt_g10, ↓zt_g11, ↓zt_g12, ↓zt_g13, ↓zt_g14, ↓zt_g15, ↓zt_g16, ↓zt_g17, ↓zt_g18, ↓zt_g19, ↓zt_g20, ↓zt_g21, ↓zt_g22, ↓zt_g23, ↓zt_g24, ↓zt_g25, ↓zt_g26, ↓zt_g27, ↓zt_g28, ↓zt_g29, ↓zt_g30, ↓zt_g31, ↓zt_g32, ↓zt_g33, ↓zt_g34, ↓zt_g35, ↓zt_g36, ↓zt_g37, ↓zt_g38, ↓zt_g39, ↓zt_g40, ↓zt_p4 hm, ↓zt_p5 hm, ↓zt_p6 hm, ↓zt_p15 hm, ↓zt_p21 hm, ↓zt_p22 hm, ↓zt_p23 hm, ↓zt_p26 hm, ↓zt_p28 hm, ↓zt_p29 hm, ↓zt_p30 hm, ↓zt_p31 hm, ↓zt_p32 hm, ↓zt_p33 hm, ↓zt_p34 hm, ↓zt_p35 hm, ↓zt_p36 hm, ↓zt_p40 hm, ↓zt_p19 hm, ↓zt_p20 hm, ↓zt_a1, ↓zt_a2, ↓zt_a3, ↓zt_a4, ↓zt_a5, ↓zt_a6, ↓zt_a7, ↓zt_a8, ↓zt_a9, ↓zt_a10, ↓zt_a11, ↓zt_a12, ↓zt_a13, ↓zt_a14, ↓zt_a15, ↓zt_a16, ↓zt_a17, ↓zt_a18, ↓zt_a19, ↓zt_a20, ↓zt_a21, ↓zt_s1 hm, ↓zt_s2 hm, ↓zt_s3 hm, ↓zt_s4 hm, ↓zt_s5 hm, ↓zt_s6 hm, ↓zt_s7 hm, ↓zt_s8 hm, ↓zt_s9 hm, ↓zt_s10 hm, ↓zt_s11 hm, ↓zt_s12 hm, ↓zt_s16 hm, ↓zt_s17 hm, ↓zt_s18 hm, ↓zt_s20 hm, ↓zt_s13 hm, ↓zt_s14 hm, ↓zt_s15 hm, ↓zt_s21 hm, ↓zt_l19, ↓zt_l17, forall_eq, ↓zqI_r, ↓zqL_r, ↓zqD_r, ↓zqF_r, ↓zqV_r, ↓zqR_r, ↓zqR_s, zboolb, zbool0, zbool1, true_and, and_true, e40, hk2, e20]
    refine ⟨fun h9 => absurd h9 (nI_ge hk (by omega)), fun _ => ⟨nI_i (by omega) (by omega), ?_⟩⟩
    have a6 : (zq_st V p cs[k]! st).bind (zq_rn V p (cs.drop (k + 1))) = some [x] := a5
    generalize cs[k]! = c at *
    refine zJ_go (fun (j : Int32 → zS → Prop) => ∀ M2 st2, zt_hk M M2 → st2.length ≤ k + 1 → zq_ly (M2.2.2.2 21) st2 → zq_st V p c st = some st2 → j (nI st2.length) (zt_S σ m N M2)) ?_ ?_
    · intro M2 st2 c1 c2 c3 c4
      rw [c4] at a6
      exact hrec _ _ ⟨M2, st2, rfl, c1, rfl, c2, c3, a6⟩
    · intro j hj
      have hne : zq_st V p c st ≠ none := fun e => by rw [e] at a6; cases a6
      unfold zq_st at hj hne
      refine ⟨fun h23 => ⟨fun hle => ?_, fun hgt => ?_⟩, fun h23 => ?_⟩
      · rw [if_neg h23, if_pos hle] at hj hne
        rcases st with _ | ⟨y, _ | ⟨x', t⟩⟩
        · exact absurd rfl hne
        · exact absurd rfl hne
        · have a3 : t.length + 1 + 1 ≤ k := a3
          obtain ⟨a4y, a4x, a4t⟩ := a4
          have a4y : M1.2.2.2 21 (t.length + 1) = y := a4y
          by_cases hop : c = -20 ∨ c = -21 ∨ c = -22 ∨ c = -24 ∨ c = -25
          · dsimp only at hj
            rw [if_pos hop] at hj
            have ev : nI (y :: x' :: t).length + (-1) = nI (t.length + 1) := (Int32.sub_eq_add_neg _ _).symm.trans (nI_pred (t.length + 1))
            have ev2 : nI (t.length + 1) - 1 = nI t.length := nI_pred t.length
            simp only [ev, ev2, nI_cl (show t.length < 2147483648 by omega), nI_cl (show t.length + 1 < 2147483648 by omega), a4y, a4x]
            refine ⟨nI_i (by omega) (by omega), nI_i (by omega) (by omega), zt_294 hop (zqL_r.mpr ?_)⟩
            try simp only [↓zt_rc, ↓zt_g0, ↓zt_g1, ↓zt_g2, ↓zt_g3, ↓zt_g4, ↓zt_g5, ↓zt_g6, ↓zt_g7, ↓zt_g8, ↓zt_g9, ↓zt_g10, ↓zt_g11, ↓zt_g12, ↓zt_g13, ↓zt_g14, ↓zt_g15, ↓zt_g16, ↓zt_g17, ↓zt_g18, ↓zt_g19, ↓zt_g20, ↓zt_g21, ↓zt_g22, ↓zt_g23, ↓zt_g24, ↓zt_g25, ↓zt_g26, ↓zt_g27, ↓zt_g28, ↓zt_g29, ↓zt_g30, ↓zt_g31, ↓zt_g32, ↓zt_g33, ↓zt_g34, ↓zt_g35, ↓zt_g36, ↓zt_g37, ↓zt_g38, ↓zt_g39, ↓zt_g40, ↓zt_p4 hm, ↓zt_p5 hm, ↓zt_p6 hm, ↓zt_p15 hm, ↓zt_p21 hm, ↓zt_p22 hm, ↓zt_p23 hm, ↓zt_p26 hm, ↓zt_p28 hm, ↓zt_p29 hm, ↓zt_p30 hm, ↓zt_p31 hm, ↓zt_p32 hm, ↓zt_p33 hm, ↓zt_p34 hm, ↓zt_p35 hm, ↓zt_p36 hm, ↓zt_p40 hm, ↓zt_p19 hm, ↓zt_p20 hm, ↓zt_a1, ↓zt_a2, ↓zt_a3, ↓zt_a4, ↓zt_a5, ↓zt_a6, ↓zt_a7, ↓zt_a8, ↓zt_a9, ↓zt_a10, ↓zt_a11, ↓zt_a12, ↓zt_a13, ↓zt_a14, ↓zt_a15, ↓zt_a16, ↓zt_a17, ↓zt_a18, ↓zt_a19, ↓zt_a20, ↓zt_a21, ↓zt_s1 hm, ↓zt_s2 hm, ↓zt_s3 hm, ↓zt_s4 hm, ↓zt_s5 hm, ↓zt_s6 hm, ↓zt_s7 hm, ↓zt_s8 hm, ↓zt_s9 hm, ↓zt_s10 hm, ↓zt_s11 hm, ↓zt_s12 hm, ↓zt_s16 hm, ↓zt_s17 hm, ↓zt_s18 hm, ↓zt_s20 hm, ↓zt_s13 hm, ↓zt_s14 hm, ↓zt_s15 hm, ↓zt_s21 hm, ↓zt_l19, ↓zt_l17, forall_eq, ↓zqI_r, ↓zqL_r, ↓zqD_r, ↓zqF_r, ↓zqV_r, ↓zqR_r, ↓zqR_s, zboolb, zbool0, zbool1, true_and, and_true, ev2, nI_cl (show t.length < 2147483648 by omega)]
            refine ⟨nI_i (by omega) (by omega), ?_⟩
            refine hj (M1.sB 21 (va_up (M1.2.2.2 21) t.length (zq_op c x' y))) _ (a1.trans zt_hk.b) ?_ ?_ rfl
            · show t.length + 1 ≤ k + 1
              omega
            · show zq_ly (va_up M1.2.2.2 21 (va_up (M1.2.2.2 21) t.length (zq_op c x' y)) 21) _
              rw [va_up_self]
              exact zq_ly_push rfl a4t
          · dsimp only at hne
            rw [if_neg hop] at hne
            exact absurd rfl hne
      · rw [if_neg h23, if_neg hgt] at hj hne
        have push : ∀ y : Int64, zq_st V p c st = some (y :: st) → vp_in (nI st.length) 200 ∧ j (nI st.length + 1) (zt_S σ m N (M1.sB 21 (va_up (M1.2.2.2 21) (nI st.length).toNatClampNeg y))) := by
          intro y hy
          refine ⟨nI_i (by omega) (by omega), ?_⟩
          rw [nI_1, nI_cl (by omega)]
          refine hj (M1.sB 21 (va_up (M1.2.2.2 21) st.length y)) (y :: st) (a1.trans zt_hk.b) ?_ ?_ ?_
          · show st.length + 1 ≤ k + 1
            omega
          · show zq_ly (va_up M1.2.2.2 21 (va_up (M1.2.2.2 21) st.length y) 21) _
            rw [va_up_self]
            exact zq_ly_push rfl a4
          · unfold zq_st at hy
            rw [if_neg h23, if_neg hgt] at hy
            exact hy
        refine zJ_go (fun (j' : Int64 → zS → Prop) => ∀ y : Int64, zq_st V p c st = some (y :: st) → j' y (zt_S σ m N M1)) ?_ ?_
        · intro y hy
          simp only [↓zt_rc, ↓zt_g0, ↓zt_g1, ↓zt_g2, ↓zt_g3, ↓zt_g4, ↓zt_g5, ↓zt_g6, ↓zt_g7, ↓zt_g8, ↓zt_g9, ↓zt_g10, ↓zt_g11, ↓zt_g12, ↓zt_g13, ↓zt_g14, ↓zt_g15, ↓zt_g16, ↓zt_g17, ↓zt_g18, ↓zt_g19, ↓zt_g20, ↓zt_g21, ↓zt_g22, ↓zt_g23, ↓zt_g24, ↓zt_g25, ↓zt_g26, ↓zt_g27, ↓zt_g28, ↓zt_g29, ↓zt_g30, ↓zt_g31, ↓zt_g32, ↓zt_g33, ↓zt_g34, ↓zt_g35, ↓zt_g36, ↓zt_g37, ↓zt_g38, ↓zt_g39, ↓zt_g40, ↓zt_p4 hm, ↓zt_p5 hm, ↓zt_p6 hm, ↓zt_p15 hm, ↓zt_p21 hm, ↓zt_p22 hm, ↓zt_p23 hm, ↓zt_p26 hm, ↓zt_p28 hm, ↓zt_p29 hm, ↓zt_p30 hm, ↓zt_p31 hm, ↓zt_p32 hm, ↓zt_p33 hm, ↓zt_p34 hm, ↓zt_p35 hm, ↓zt_p36 hm, ↓zt_p40 hm, ↓zt_p19 hm, ↓zt_p20 hm, ↓zt_a1, ↓zt_a2, ↓zt_a3, ↓zt_a4, ↓zt_a5, ↓zt_a6, ↓zt_a7, ↓zt_a8, ↓zt_a9, ↓zt_a10, ↓zt_a11, ↓zt_a12, ↓zt_a13, ↓zt_a14, ↓zt_a15, ↓zt_a16, ↓zt_a17, ↓zt_a18, ↓zt_a19, ↓zt_a20, ↓zt_a21, ↓zt_s1 hm, ↓zt_s2 hm, ↓zt_s3 hm, ↓zt_s4 hm, ↓zt_s5 hm, ↓zt_s6 hm, ↓zt_s7 hm, ↓zt_s8 hm, ↓zt_s9 hm, ↓zt_s10 hm, ↓zt_s11 hm, ↓zt_s12 hm, ↓zt_s16 hm, ↓zt_s17 hm, ↓zt_s18 hm, ↓zt_s20 hm, ↓zt_s13 hm, ↓zt_s14 hm, ↓zt_s15 hm, ↓zt_s21 hm, ↓zt_l19, ↓zt_l17, forall_eq, ↓zqI_r, ↓zqL_r, ↓zqD_r, ↓zqF_r, ↓zqV_r, ↓zqR_r, ↓zqR_s, zboolb, zbool0, zbool1, true_and, and_true]
          exact push y hy
        · intro j' hj'
          refine ⟨fun hneg => ?_, fun hpos => ?_⟩
          · by_cases h9 : (-1 - c).toNatClampNeg < 9
            · have e1 : -1 - c = nI (-1 - c).toNatClampNeg := by
                have c1 : c.toInt < 0 := (fa_lt c 0).mp hneg
                have c2 : ¬ c.toInt ≤ -20 := fun h8 => hgt ((fa_le c (-20)).mpr h8)
                have c3 : -1 - c = nI (-1 - c.toInt).toNat := by
                  rw [← iI_nat, Int.toNat_of_nonneg (by omega), ← iI_sub, iI_of]
                  rfl
                rw [c3, nI_cl (by omega)]
              have := hj' ((zq_pr V p (-1 - c).toNatClampNeg).toInt64) (by
                unfold zq_st
                rw [if_neg h23, if_neg hgt, if_pos hneg, if_pos h9])
              generalize (-1 - c).toNatClampNeg = kk at *
              rw [e1]
              refine zt_293 (V := V) (by rw [a1.2.2.1]; exact hM) hV (fun f hf s hs => by rw [a1.2.2.1]; exact hl f hf s hs) (fun q hq => by rw [a1.2.2.1]; exact hr q hq) hp h9 (zqI_r.mpr this)
            · rw [if_pos hneg, if_neg h9] at hne
              exact absurd rfl hne
          · exact hj' c.toInt64 (by
              unfold zq_st
              rw [if_neg h23, if_neg hgt, if_neg hpos])
      · rw [if_pos h23] at hj hne
        rcases st with _ | ⟨y, t⟩
        · exact absurd rfl hne
        · have a3 : t.length + 1 ≤ k := a3
          have a4y : M1.2.2.2 21 t.length = y := a4.1
          have ev2 : nI (y :: t).length - 1 = nI t.length := by
            show nI (t.length + 1) - nI 1 = _
            exact zn_sub (by omega)
          simp only [↓zt_rc, ↓zt_g0, ↓zt_g1, ↓zt_g2, ↓zt_g3, ↓zt_g4, ↓zt_g5, ↓zt_g6, ↓zt_g7, ↓zt_g8, ↓zt_g9, ↓zt_g10, ↓zt_g11, ↓zt_g12, ↓zt_g13, ↓zt_g14, ↓zt_g15, ↓zt_g16, ↓zt_g17, ↓zt_g18, ↓zt_g19, ↓zt_g20, ↓zt_g21, ↓zt_g22, ↓zt_g23, ↓zt_g24, ↓zt_g25, ↓zt_g26, ↓zt_g27, ↓zt_g28, ↓zt_g29, ↓zt_g30, ↓zt_g31, ↓zt_g32, ↓zt_g33, ↓zt_g34, ↓zt_g35, ↓zt_g36, ↓zt_g37, ↓zt_g38, ↓zt_g39, ↓zt_g40, ↓zt_p4 hm, ↓zt_p5 hm, ↓zt_p6 hm, ↓zt_p15 hm, ↓zt_p21 hm, ↓zt_p22 hm, ↓zt_p23 hm, ↓zt_p26 hm, ↓zt_p28 hm, ↓zt_p29 hm, ↓zt_p30 hm, ↓zt_p31 hm, ↓zt_p32 hm, ↓zt_p33 hm, ↓zt_p34 hm, ↓zt_p35 hm, ↓zt_p36 hm, ↓zt_p40 hm, ↓zt_p19 hm, ↓zt_p20 hm, ↓zt_a1, ↓zt_a2, ↓zt_a3, ↓zt_a4, ↓zt_a5, ↓zt_a6, ↓zt_a7, ↓zt_a8, ↓zt_a9, ↓zt_a10, ↓zt_a11, ↓zt_a12, ↓zt_a13, ↓zt_a14, ↓zt_a15, ↓zt_a16, ↓zt_a17, ↓zt_a18, ↓zt_a19, ↓zt_a20, ↓zt_a21, ↓zt_s1 hm, ↓zt_s2 hm, ↓zt_s3 hm, ↓zt_s4 hm, ↓zt_s5 hm, ↓zt_s6 hm, ↓zt_s7 hm, ↓zt_s8 hm, ↓zt_s9 hm, ↓zt_s10 hm, ↓zt_s11 hm, ↓zt_s12 hm, ↓zt_s16 hm, ↓zt_s17 hm, ↓zt_s18 hm, ↓zt_s20 hm, ↓zt_s13 hm, ↓zt_s14 hm, ↓zt_s15 hm, ↓zt_s21 hm, ↓zt_l19, ↓zt_l17, forall_eq, ↓zqI_r, ↓zqL_r, ↓zqD_r, ↓zqF_r, ↓zqV_r, ↓zqR_r, ↓zqR_s, zboolb, zbool0, zbool1, true_and, and_true, ev2, nI_cl (show t.length < 2147483648 by omega), a4y]
          refine ⟨nI_i (by omega) (by omega), nI_i (by omega) (by omega), ?_⟩
          have := hj (M1.sB 21 (va_up (M1.2.2.2 21) t.length (1 - y))) ((1 - y) :: t) (a1.trans zt_hk.b) (by show t.length + 1 ≤ k + 1; omega) (by
            show zq_ly (va_up M1.2.2.2 21 (va_up (M1.2.2.2 21) t.length (1 - y)) 21) _
            rw [va_up_self]
            exact zq_ly_push rfl a4.2) rfl
          exact this
  · rintro rec x1 s' ⟨M1, st, rfl, a1, rfl, a3, a4, a5⟩
    have e40 : M1.1 40 = nI cs.length := by rw [a1.1]; exact hc.1
    rw [List.drop_length] at a5
    have a5 : some st = some [x] := a5
    cases a5
    have a6 : M1.2.2.2 21 0 = x := a4.1
    simp only [↓zt_rc, ↓zt_g0, ↓zt_g1, ↓zt_g2, ↓zt_g3, ↓zt_g4, ↓zt_g5, ↓zt_g6, ↓zt_g7, ↓zt_g8, ↓zt_g9, ↓zt_g10, ↓zt_g11, ↓zt_g12, ↓zt_g13, ↓zt_g14, ↓zt_g15, ↓zt_g16, ↓zt_g17, ↓zt_g18, ↓zt_g19, ↓zt_g20, ↓zt_g21, ↓zt_g22, ↓zt_g23, ↓zt_g24, ↓zt_g25, ↓zt_g26, ↓zt_g27, ↓zt_g28, ↓zt_g29, ↓zt_g30, ↓zt_g31, ↓zt_g32, ↓zt_g33, ↓zt_g34, ↓zt_g35, ↓zt_g36, ↓zt_g37, ↓zt_g38, ↓zt_g39, ↓zt_g40, ↓zt_p4 hm, ↓zt_p5 hm, ↓zt_p6 hm, ↓zt_p15 hm, ↓zt_p21 hm, ↓zt_p22 hm, ↓zt_p23 hm, ↓zt_p26 hm, ↓zt_p28 hm, ↓zt_p29 hm, ↓zt_p30 hm, ↓zt_p31 hm, ↓zt_p32 hm, ↓zt_p33 hm, ↓zt_p34 hm, ↓zt_p35 hm, ↓zt_p36 hm, ↓zt_p40 hm, ↓zt_p19 hm, ↓zt_p20 hm, ↓zt_a1, ↓zt_a2, ↓zt_a3, ↓zt_a4, ↓zt_a5, ↓zt_a6, ↓zt_a7, ↓zt_a8, ↓zt_a9, ↓zt_a10, ↓zt_a11, ↓zt_a12, ↓zt_a13, ↓zt_a14, ↓zt_a15, ↓zt_a16, ↓zt_a17, ↓zt_a18, ↓zt_a19, ↓zt_a20, ↓zt_a21, ↓zt_s1 hm, ↓zt_s2 hm, ↓zt_s3 hm, ↓zt_s4 hm, ↓zt_s5 hm, ↓zt_s6 hm, ↓zt_s7 hm, ↓zt_s8 hm, ↓zt_s9 hm, ↓zt_s10 hm, ↓zt_s11 hm, ↓zt_s12 hm, ↓zt_s16 hm, ↓zt_s17 hm, ↓zt_s18 hm, ↓zt_s20 hm, ↓zt_s13 hm, ↓zt_s14 hm, ↓zt_s15 hm, ↓zt_s21 hm, ↓zt_l19, ↓zt_l17, forall_eq, ↓zqI_r, ↓zqL_r, ↓zqD_r, ↓zqF_r, ↓zqV_r, ↓zqR_r, ↓zqR_s, zboolb, zbool0, zbool1, true_and, and_true, e40]
    refine ⟨fun _ => ⟨nI_i (k := 0) (by omega) (by omega), ?_⟩, fun h9 => absurd (nI_le (Nat.le_refl _) (by omega)) h9⟩
    have e0 : (0 : Int32).toNatClampNeg = 0 := by decide
    rw [e0, a6]
    refine zJ_go (fun (j : Int32 → zS → Prop) => j (zs_b (x = 1)) (zt_S σ m N M1)) ⟨zs_bb, h M1 a1⟩ ?_
    intro j hj
    rw [lc_eq1]
    refine ⟨fun h9 => ?_, fun h9 => ?_⟩
    · rw [zs_bf h9] at hj
      exact hj
    · rw [zs_bt h9] at hj
      exact hj
end ZQR
