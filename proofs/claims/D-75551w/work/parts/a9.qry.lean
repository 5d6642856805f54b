/-! QUERIES: what compiling does, by turns (mode 0 a factor, 1 a conjunction, 2 its rest, 3 a test, 4 its rest) -/
def zq_o (b : Nat → Nat) (S : zp_P) : Int32 := if zp_iss b S 60 = true then -20 else if zp_iss b S 61 = true then -21 else -22
def zq_c2 (b : Nat → Nat) (L : Nat) (S : zp_P) : zp_P := zp_adv b L (zp_chk S (¬ zq_o b S = -22 ∨ zp_iss b S 62 = true) 1)
/-- one comparison -/
def zq_cmp (b : Nat → Nat) (L : Nat) (X : zq_X) : zq_X :=
  zq_emit (zq_val b L (zq_c2 b L (zq_val b L X.1 X.2.1 X.2.2).1) (zq_val b L X.1 X.2.1 X.2.2).2.1 (zq_val b L X.1 X.2.1 X.2.2).2.2) (zq_o b (zq_val b L X.1 X.2.1 X.2.2).1)
def zq_nt (X : zq_X) : zq_X := ((zq_emit X (-23)).1, (zq_emit X (-23)).2.1 - 1, (zq_emit X (-23)).2.2)
def zq_pn (b : Nat → Nat) (L : Nat) (X : zq_X) : zq_X := (zp_xs b L X.1 41, X.2.1 - 1, X.2.2)
def zq_if (X X' : zq_X) : zq_X := if X.1.2.1 = 0 then X' else X
def zq_ac (b : Nat → Nat) (L : Nat) (X : zq_X) (w : String) : zq_X := (zp_acc b L X.1 (zw w), X.2)
def zq_go (b : Nat → Nat) (L : Nat) : Nat → Nat → zq_X → zq_X
  | 0, _, X => X
  | q + 1, 0, X =>
    if zp_isw b X.1 (zw "not") = true then zq_nt (zq_if (zq_enter b L X) (zq_go b L q 0 (zq_enter b L X)))
    else if zp_iss b X.1 40 = true then zq_pn b L (zq_if (zq_enter b L X) (zq_go b L q 3 (zq_enter b L X)))
    else zq_cmp b L X
  | q + 1, 1, X => zq_go b L q 2 (zq_go b L q 0 X)
  | q + 1, 2, X => if zp_isw b X.1 (zw "and") = true then zq_go b L q 2 (zq_emit (zq_go b L q 0 (zq_ac b L X "and")) (-24)) else X
  | q + 1, 3, X => zq_go b L q 4 (zq_go b L q 1 X)
  | q + 1, _ + 4, X => if zp_isw b X.1 (zw "or") = true then zq_go b L q 4 (zq_emit (zq_go b L q 1 (zq_ac b L X "or")) (-25)) else X
section ZQ9
variable {b : Nat → Nat} {L q : Nat} {S : zp_P} {d : Nat} {l : List Int32} {X X' X'' : zq_X}
theorem zq_go_0 : zq_go b L (q + 1) 0 X = if zp_isw b X.1 (zw "not") = true then zq_nt (zq_if (zq_enter b L X) (zq_go b L q 0 (zq_enter b L X))) else if zp_iss b X.1 40 = true then zq_pn b L (zq_if (zq_enter b L X) (zq_go b L q 3 (zq_enter b L X))) else zq_cmp b L X := rfl
theorem zq_go_1 : zq_go b L (q + 1) 1 X = zq_go b L q 2 (zq_go b L q 0 X) := rfl
theorem zq_go_2 : zq_go b L (q + 1) 2 X = if zp_isw b X.1 (zw "and") = true then zq_go b L q 2 (zq_emit (zq_go b L q 0 (zq_ac b L X "and")) (-24)) else X := rfl
theorem zq_go_3 : zq_go b L (q + 1) 3 X = zq_go b L q 4 (zq_go b L q 1 X) := rfl
theorem zq_go_4 : zq_go b L (q + 1) 4 X = if zp_isw b X.1 (zw "or") = true then zq_go b L q 4 (zq_emit (zq_go b L q 1 (zq_ac b L X "or")) (-25)) else X := rfl
theorem zq_go_5 {k : Nat} : zq_go b L (q + 1) (k + 4) X = zq_go b L (q + 1) 4 X := rfl
theorem zq_emit_1 {c : Int32} : (zq_emit X c).1 = X.1 := by
  unfold zq_emit
  by_cases h : X.1.2.1 = 0
  · rw [if_pos h]
  · rw [if_neg h]
theorem zq_emit_d {c : Int32} : (zq_emit X c).2.1 = X.2.1 := by
  unfold zq_emit
  by_cases h : X.1.2.1 = 0
  · rw [if_pos h]
  · rw [if_neg h]
theorem zq_if_d (h : X'.2.1 = X.2.1) : (zq_if X X').2.1 = X.2.1 := by
  unfold zq_if
  by_cases h0 : X.1.2.1 = 0
  · rw [if_pos h0]; exact h
  · rw [if_neg h0]
theorem zq_val_d : (zq_val b L S d l).2.1 = d := by
  unfold zq_val
  by_cases h0 : ¬ S.2.1 = 0 ∨ S.1.1 = 2
  · rw [if_pos h0]; exact zq_emit_d
  · rw [if_neg h0]; exact zq_emit_d
theorem zq_go_d : ∀ q k X, (zq_go b L q k X).2.1 = X.2.1
  | 0, _, _ => rfl
  | q + 1, 0, X => by
    rw [zq_go_0]
    by_cases h1 : zp_isw b X.1 (zw "not") = true
    · rw [if_pos h1]
      have h2 : (zq_if (zq_enter b L X) (zq_go b L q 0 (zq_enter b L X))).2.1 = X.2.1 + 1 := zq_if_d (zq_go_d q 0 _)
      generalize zq_if (zq_enter b L X) (zq_go b L q 0 (zq_enter b L X)) = W at *
      show (zq_emit W (-23)).2.1 - 1 = _
      rw [zq_emit_d, h2]
      rfl
    · rw [if_neg h1]
      by_cases h3 : zp_iss b X.1 40 = true
      · rw [if_pos h3]
        have h2 : (zq_if (zq_enter b L X) (zq_go b L q 3 (zq_enter b L X))).2.1 = X.2.1 + 1 := zq_if_d (zq_go_d q 3 _)
        generalize zq_if (zq_enter b L X) (zq_go b L q 3 (zq_enter b L X)) = W at *
        show W.2.1 - 1 = _
        rw [h2]
        rfl
      · rw [if_neg h3]
        unfold zq_cmp
        rw [zq_emit_d, zq_val_d, zq_val_d]
  | q + 1, 1, X => by rw [zq_go_1, zq_go_d q 2, zq_go_d q 0]
  | q + 1, 2, X => by
    rw [zq_go_2]
    by_cases h1 : zp_isw b X.1 (zw "and") = true
    · rw [if_pos h1, zq_go_d q 2, zq_emit_d, zq_go_d q 0]
      rfl
    · rw [if_neg h1]
  | q + 1, 3, X => by rw [zq_go_3, zq_go_d q 4, zq_go_d q 1]
  | q + 1, k + 4, X => by
    rw [zq_go_5, zq_go_4]
    by_cases h1 : zp_isw b X.1 (zw "or") = true
    · rw [if_pos h1, zq_go_d q 4, zq_emit_d, zq_go_d q 1]
      rfl
    · rw [if_neg h1]
/-- a road from X to X': what goes wrong stays, the token moves on by i, and by j more than codes are laid -/
def zq_pg (b : Nat → Nat) (L : Nat) (i j : Int) (X X' : zq_X) : Prop := zp_ok b L X.1.1 → zp_ok b L X'.1.1 ∧ (X'.1.2.1 = 0 → X.1.2.1 = 0 ∧ (X.1.1.2.1 : Int) + i ≤ X'.1.1.2.1 ∧ (X.1.1.2.1 : Int) - X.2.2.length + j ≤ (X'.1.1.2.1 : Int) - X'.2.2.length)
theorem zq_pg.rfl' : zq_pg b L 0 0 X X := fun h => ⟨h, fun e => ⟨e, by omega, by omega⟩⟩
theorem zq_pg.trans {i j i' j' : Int} (h : zq_pg b L i j X X') (h' : zq_pg b L i' j' X' X'') : zq_pg b L (i + i') (j + j') X X'' := fun h0 => by
  obtain ⟨a1, a2⟩ := h h0
  obtain ⟨c1, c2⟩ := h' a1
  refine ⟨c1, fun e => ?_⟩
  obtain ⟨d1, d2, d3⟩ := c2 e
  obtain ⟨e1, e2, e3⟩ := a2 d1
  exact ⟨e1, by omega, by omega⟩
theorem zq_pg.weak {i j i' j' : Int} (h : zq_pg b L i j X X') (hi : i' ≤ i) (hj : j' ≤ j) : zq_pg b L i' j' X X' := fun h0 => by
  obtain ⟨a1, a2⟩ := h h0
  refine ⟨a1, fun e => ?_⟩
  obtain ⟨e1, e2, e3⟩ := a2 e
  exact ⟨e1, by omega, by omega⟩
theorem zq_pg.chk {ok : Prop} [Decidable ok] {c d' : Nat} (hc : c ≠ 0) : zq_pg b L 0 0 (S, d, l) (zp_chk S ok c, d', l) := fun h => by
  have et := zp_chk_t S ok c
  have he := fun e => zp_chk_e (S := S) (ok := ok) hc e
  generalize zp_chk S ok c = W at *
  refine ⟨?_, fun e => ⟨(he e).2.1, ?_, ?_⟩⟩
  · show zp_ok b L W.1
    rw [et]
    exact h
  · show (S.1.2.1 : Int) + 0 ≤ W.1.2.1
    rw [et]
    omega
  · show (S.1.2.1 : Int) - l.length + 0 ≤ (W.1.2.1 : Int) - l.length
    rw [et]
    omega
theorem zq_pg.adv {d' : Nat} (hL : L ≤ 500) (ht : S.2.1 = 0 → S.1.1 ≠ 0) : zq_pg b L 1 1 (S, d, l) (zp_adv b L S, d', l) := fun h => by
  have h : zp_ok b L S.1 := h
  have h1 := zp_go.adv (S := S) hL h
  have h2 := zp_adv_e b L S
  have h3 := fun e => zp_adv_lt (b := b) (L := L) (S := S) h (ht e) e
  generalize zp_adv b L S = W at *
  refine ⟨h1.1, fun e => ?_⟩
  have e : W.2.1 = 0 := e
  rw [h2] at e
  have h4 := h3 e
  refine ⟨e, ?_, ?_⟩
  · show (S.1.2.1 : Int) + 1 ≤ W.1.2.1
    omega
  · show (S.1.2.1 : Int) - l.length + 1 ≤ (W.1.2.1 : Int) - l.length
    omega
theorem zq_pg.adv0 {d' : Nat} (hL : L ≤ 500) : zq_pg b L 0 0 (S, d, l) (zp_adv b L S, d', l) := fun h => by
  have h : zp_ok b L S.1 := h
  have h1 := zp_go.adv (S := S) hL h
  have h2 := zp_adv_e b L S
  generalize zp_adv b L S = W at *
  refine ⟨h1.1, fun e => ?_⟩
  have e : W.2.1 = 0 := e
  rw [h2] at e
  have h4 := h1.2
  refine ⟨e, ?_, ?_⟩
  · show (S.1.2.1 : Int) + 0 ≤ W.1.2.1
    omega
  · show (S.1.2.1 : Int) - l.length + 0 ≤ (W.1.2.1 : Int) - l.length
    omega
theorem zq_pg.emit {c : Int32} : zq_pg b L 0 (-1) X (zq_emit X c) := fun h => by
  unfold zq_emit
  by_cases h0 : X.1.2.1 = 0
  · rw [if_pos h0]
    refine ⟨h, fun e => ⟨h0, ?_, ?_⟩⟩
    · show (X.1.1.2.1 : Int) + 0 ≤ X.1.1.2.1
      omega
    · show (X.1.1.2.1 : Int) - X.2.2.length + -1 ≤ (X.1.1.2.1 : Int) - (X.2.2 ++ [c]).length
      rw [List.length_append]
      show _ ≤ (X.1.1.2.1 : Int) - ((X.2.2.length + 1 : Nat) : Int)
      omega
  · rw [if_neg h0]
    exact ⟨h, fun e => absurd e h0⟩
theorem zq_fn_isw : ∀ q i, zq_fn b S q i < i + q → zp_isw b S (zw zq_nl[zq_fn b S q i]!) = true
  | 0, i, h => absurd h (by simp only [zq_fn]; omega)
  | q + 1, i, h => by
    simp only [zq_fn] at h ⊢
    by_cases h1 : zp_isw b S (zw zq_nl[i]!) = true
    · rw [if_pos h1]
      exact h1
    · rw [if_neg h1] at h ⊢
      exact zq_fn_isw q (i + 1) (by omega)
theorem zq_enter_pg (hL : L ≤ 500) (ht : S.2.1 = 0 → S.1.1 ≠ 0) : zq_pg b L 1 1 (S, d, l) (zq_enter b L (S, d, l)) := by
  have h1 : zq_pg b L 0 0 (S, d, l) (zp_chk S (d < 6) 3, d, l) := zq_pg.chk (by omega)
  have h2 : zq_pg b L 1 1 (zp_chk S (d < 6) 3, d, l) (zp_adv b L (zp_chk S (d < 6) 3), d + 1, l) := zq_pg.adv hL fun e => by
    rw [zp_chk_t]
    exact ht (zp_chk_e (by omega) e).2.1
  exact (h1.trans h2).weak (by omega) (by omega)
theorem zq_val_pg (hL : L ≤ 500) : zq_pg b L 1 0 (S, d, l) (zq_val b L S d l) := by
  by_cases h0 : ¬ S.2.1 = 0 ∨ S.1.1 = 2
  · have e : zq_val b L S d l = zq_emit (zp_nS b L S 0 9999, d, l) (nI (zp_nv b L S 0 9999)) := if_pos h0
    rw [e]
    have h1 : zq_pg b L 0 0 (S, d, l) (zp_n1 S, d, l) := zq_pg.chk (by omega)
    have h2 : zq_pg b L 0 0 (zp_n1 S, d, l) (zp_n2 b S 0 9999, d, l) := zq_pg.chk (by omega)
    have h3 : zq_pg b L 1 1 (zp_n2 b S 0 9999, d, l) (zp_nS b L S 0 9999, d, l) := zq_pg.adv hL fun e => by
      have e1 : (zp_n1 S).2.1 = 0 := (zp_chk_e (by omega) e).2.1
      have e2 : (zp_n2 b S 0 9999).1 = (zp_n1 S).1 := zp_chk_t _ _ _
      have e3 : (zp_n1 S).1 = S.1 := zp_chk_t _ _ _
      have e4 := zp_chk_e (S := S) (ok := ¬ S.2.1 = 0 ∨ S.1.1 = 2) (c := 1) (by omega) e1
      rw [e2, e3]
      rcases e4.1 with e5 | e5
      · exact absurd e4.2.1 e5
      · omega
    exact (((h1.trans h2).trans h3).trans zq_pg.emit).weak (by omega) (by omega)
  · have e : zq_val b L S d l = (zp_adv b L (zq_v1 b S d l).1, (zq_v1 b S d l).2) := if_neg h0
    rw [e]
    have h1 : zq_pg b L 0 0 (S, d, l) (zp_chk S (zq_nm b S < 9) 1, d, l) := zq_pg.chk (by omega)
    have h2 : zq_pg b L 0 (-1) (zp_chk S (zq_nm b S < 9) 1, d, l) (zq_v1 b S d l) := zq_pg.emit
    have e1 : (zq_v1 b S d l).1 = zp_chk S (zq_nm b S < 9) 1 := zq_emit_1
    have e2 : (zp_chk S (zq_nm b S < 9) 1).2.1 = 0 → (zp_chk S (zq_nm b S < 9) 1).1.1 ≠ 0 := fun e => by
      have e3 := zp_chk_e (by omega) e
      have e4 : zp_isw b S (zw zq_nl[zq_fn b S 9 0]!) = true := zq_fn_isw 9 0 e3.1
      have e5 := (zp_isw_iff.mp e4).1.2.1
      rw [zp_chk_t]
      omega
    have h3 := h1.trans h2
    generalize zp_chk S (zq_nm b S < 9) 1 = W1 at *
    generalize zq_v1 b S d l = W at *
    obtain ⟨S', d', l'⟩ := W
    have e1 : S' = W1 := e1
    subst e1
    have h4 : zq_pg b L 1 1 (S', d', l') (zp_adv b L S', d', l') := zq_pg.adv hL e2
    exact (h3.trans h4).weak (by omega) (by omega)
theorem zq_c2_pg (hL : L ≤ 500) : zq_pg b L 1 1 (S, d, l) (zq_c2 b L S, d, l) := by
  have h1 : zq_pg b L 0 0 (S, d, l) (zp_chk S (¬ zq_o b S = -22 ∨ zp_iss b S 62 = true) 1, d, l) := zq_pg.chk (by omega)
  have h2 : zq_pg b L 1 1 (zp_chk S (¬ zq_o b S = -22 ∨ zp_iss b S 62 = true) 1, d, l) (zq_c2 b L S, d, l) := zq_pg.adv hL fun e => by
    have e3 := zp_chk_e (by omega) e
    rw [zp_chk_t]
    have key : ∀ c, zp_iss b S c = true → S.1.1 ≠ 0 := fun c hc => by
      have := of_decide_eq_true hc
      omega
    rcases e3.1 with e4 | e4
    · by_cases g1 : zp_iss b S 60 = true
      · exact key _ g1
      · by_cases g2 : zp_iss b S 61 = true
        · exact key _ g2
        · exact absurd (by unfold zq_o; rw [if_neg g1, if_neg g2]) e4
    · exact key _ e4
  exact (h1.trans h2).weak (by omega) (by omega)
theorem zq_cmp_pg (hL : L ≤ 500) : zq_pg b L 3 0 X (zq_cmp b L X) := by
  obtain ⟨S, d, l⟩ := X
  have h1 : zq_pg b L 1 0 (S, d, l) (zq_val b L S d l) := zq_val_pg hL
  have e : zq_cmp b L (S, d, l) = zq_emit (zq_val b L (zq_c2 b L (zq_val b L S d l).1) (zq_val b L S d l).2.1 (zq_val b L S d l).2.2) (zq_o b (zq_val b L S d l).1) := rfl
  rw [e]
  generalize zq_val b L S d l = W at *
  obtain ⟨S', d', l'⟩ := W
  have h2 : zq_pg b L 1 1 (S', d', l') (zq_c2 b L S', d', l') := zq_c2_pg hL
  have h3 : zq_pg b L 1 0 (zq_c2 b L S', d', l') (zq_val b L (zq_c2 b L S') d' l') := zq_val_pg hL
  have h4 : zq_pg b L 0 (-1) (zq_val b L (zq_c2 b L S') d' l') (zq_emit (zq_val b L (zq_c2 b L S') d' l') (zq_o b S')) := zq_pg.emit
  exact (((h1.trans h2).trans h3).trans h4).weak (by omega) (by omega)
theorem zq_if_pg {i j : Int} (h : zq_pg b L 0 0 X X') (h' : zq_pg b L i j X'' X) : zq_pg b L i j X'' (zq_if X X') := by
  unfold zq_if
  by_cases h0 : X.1.2.1 = 0
  · rw [if_pos h0]
    exact (h'.trans h).weak (by omega) (by omega)
  · rw [if_neg h0]
    exact h'
theorem zq_isw_t {w : List Nat} (h : zp_isw b S w = true) : S.1.1 ≠ 0 ∧ S.2.1 = 0 := by
  have := (zp_isw_iff.mp h).1
  omega
theorem zq_iss_t {c : Nat} (h : zp_iss b S c = true) : S.1.1 ≠ 0 ∧ S.2.1 = 0 := by
  have := of_decide_eq_true h
  omega
theorem zq_ac_pg (hL : L ≤ 500) {w : String} (h : zp_isw b X.1 (zw w) = true) : zq_pg b L 1 1 X (zq_ac b L X w) := by
  obtain ⟨S, d, l⟩ := X
  have h : zp_isw b S (zw w) = true := h
  have e : zq_ac b L (S, d, l) w = (zp_adv b L S, d, l) := by
    show (zp_acc b L S (zw w), d, l) = _
    unfold zp_acc
    rw [if_pos h]
  rw [e]
  exact zq_pg.adv hL fun _ => (zq_isw_t h).1
theorem zq_go_pg (hL : L ≤ 500) : ∀ q k X, zq_pg b L 0 0 X (zq_go b L q k X)
  | 0, _, _ => zq_pg.rfl'
  | q + 1, 0, X => by
    rw [zq_go_0]
    obtain ⟨S, d, l⟩ := X
    by_cases h1 : zp_isw b S (zw "not") = true
    · rw [if_pos h1]
      have h2 : zq_pg b L 1 1 (S, d, l) (zq_enter b L (S, d, l)) := zq_enter_pg hL fun _ => (zq_isw_t h1).1
      have h3 := zq_if_pg (zq_go_pg hL q 0 (zq_enter b L (S, d, l))) h2
      generalize zq_if (zq_enter b L (S, d, l)) (zq_go b L q 0 (zq_enter b L (S, d, l))) = W at *
      have h4 : zq_pg b L 0 (-1) W (zq_emit W (-23)) := zq_pg.emit
      have h5 : zq_pg b L 0 (-1) W (zq_nt W) := h4
      exact (h3.trans h5).weak (by omega) (by omega)
    · rw [if_neg h1]
      by_cases h6 : zp_iss b S 40 = true
      · rw [if_pos h6]
        have h2 : zq_pg b L 1 1 (S, d, l) (zq_enter b L (S, d, l)) := zq_enter_pg hL fun _ => (zq_iss_t h6).1
        have h3 := zq_if_pg (zq_go_pg hL q 3 (zq_enter b L (S, d, l))) h2
        generalize zq_if (zq_enter b L (S, d, l)) (zq_go b L q 3 (zq_enter b L (S, d, l))) = W at *
        obtain ⟨S', d', l'⟩ := W
        have h4 : zq_pg b L 0 0 (S', d', l') (zp_chk S' (zp_iss b S' 41 = true) 1, d', l') := zq_pg.chk (by omega)
        have h5 : zq_pg b L 0 0 (zp_chk S' (zp_iss b S' 41 = true) 1, d', l') (zq_pn b L (S', d', l')) := zq_pg.adv0 hL
        exact ((h3.trans h4).trans h5).weak (by omega) (by omega)
      · rw [if_neg h6]
        exact (zq_cmp_pg hL).weak (by omega) (by omega)
  | q + 1, 1, X => by
    rw [zq_go_1]
    exact ((zq_go_pg hL q 0 X).trans (zq_go_pg hL q 2 _)).weak (by omega) (by omega)
  | q + 1, 2, X => by
    rw [zq_go_2]
    by_cases h1 : zp_isw b X.1 (zw "and") = true
    · rw [if_pos h1]
      exact ((((zq_ac_pg hL h1).trans (zq_go_pg hL q 0 _)).trans zq_pg.emit).trans (zq_go_pg hL q 2 _)).weak (by omega) (by omega)
    · rw [if_neg h1]
      exact zq_pg.rfl'
  | q + 1, 3, X => by
    rw [zq_go_3]
    exact ((zq_go_pg hL q 1 X).trans (zq_go_pg hL q 4 _)).weak (by omega) (by omega)
  | q + 1, k + 4, X => by
    rw [zq_go_5, zq_go_4]
    by_cases h1 : zp_isw b X.1 (zw "or") = true
    · rw [if_pos h1]
      exact ((((zq_ac_pg hL h1).trans (zq_go_pg hL q 1 _)).trans zq_pg.emit).trans (zq_go_pg hL q 4 _)).weak (by omega) (by omega)
    · rw [if_neg h1]
      exact zq_pg.rfl'
end ZQ9
