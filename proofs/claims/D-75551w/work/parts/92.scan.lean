/-! READING TEXTS: tokens; what goes wrong stays -/
def zp_run (c : Nat → Bool) (L : Nat) : Nat → Nat → Nat
  | 0, p => p
  | q + 1, p => if p < L ∧ c p = true then zp_run c L q (p + 1) else p
def zp_let (x : Nat) : Bool := decide (97 ≤ x ∧ x ≤ 122)
def zp_dig (x : Nat) : Bool := decide (48 ≤ x ∧ x ≤ 57)
def zp_sp (x : Nat) : Bool := decide (x = 32 ∨ x = 10)
/-- a token: kind (0 end, 1 word, 2 number, 3 sign), where it begins, where it ends -/
abbrev zp_T : Type := Nat × Nat × Nat
def zp_tok (b : Nat → Nat) (L p0 : Nat) : zp_T :=
  let p := zp_run (fun i => zp_sp (b i)) L 501 p0
  if ¬ p < L then (0, p, p) else if zp_let (b p) = true then (1, p, zp_run (fun i => zp_let (b i)) L 501 p) else if zp_dig (b p) = true then (2, p, zp_run (fun i => zp_dig (b i)) L 501 p) else (3, p, p + 1)
theorem zp_run_s (c : Nat → Bool) (L : Nat) : ∀ q q' p, L < q + p → L < q' + p → p ≤ L → zp_run c L q p = zp_run c L q' p
  | 0, q', p, h, _, hp => absurd h (by omega)
  | q + 1, 0, p, _, h, hp => absurd h (by omega)
  | q + 1, q' + 1, p, h1, h2, hp => by
    simp only [zp_run]
    by_cases h : p < L ∧ c p = true
    · rw [if_pos h, if_pos h]
      exact zp_run_s c L q q' (p + 1) (by omega) (by omega) (by omega)
    · rw [if_neg h, if_neg h]
theorem zp_run_b (c : Nat → Bool) (L : Nat) : ∀ q p, p ≤ L → p ≤ zp_run c L q p ∧ zp_run c L q p ≤ L
  | 0, p, h => ⟨Nat.le_refl _, h⟩
  | q + 1, p, h => by
    simp only [zp_run]
    by_cases hc : p < L ∧ c p = true
    · rw [if_pos hc]
      have := zp_run_b c L q (p + 1) (by omega)
      omega
    · rw [if_neg hc]; omega
theorem zp_run_all (c : Nat → Bool) (L : Nat) : ∀ q p i, p ≤ i → i < zp_run c L q p → c i = true ∧ i < L
  | 0, p, i, h1, h2 => absurd h2 (by simp only [zp_run]; omega)
  | q + 1, p, i, h1, h2 => by
    simp only [zp_run] at h2
    by_cases hc : p < L ∧ c p = true
    · rw [if_pos hc] at h2
      by_cases e : i = p
      · subst e
        exact ⟨hc.2, hc.1⟩
      · exact zp_run_all c L q (p + 1) i (by omega) h2
    · rw [if_neg hc] at h2
      omega
theorem zp_run_step {c : Nat → Bool} {L p : Nat} (hL : L ≤ 500) (h : p < L ∧ c p = true) : zp_run c L 501 p = zp_run c L 501 (p + 1) := by
  have e : zp_run c L 501 p = zp_run c L 500 (p + 1) := by
    show (if p < L ∧ c p = true then zp_run c L 500 (p + 1) else p) = _
    rw [if_pos h]
  rw [e]
  exact zp_run_s c L 500 501 (p + 1) (by omega) (by omega) (by omega)
theorem zp_run_stop {c : Nat → Bool} {L p : Nat} (h : ¬ (p < L ∧ c p = true)) : zp_run c L 501 p = p := by
  show (if p < L ∧ c p = true then zp_run c L 500 (p + 1) else p) = _
  rw [if_neg h]
/-- a token that can come up -/
def zp_ok (b : Nat → Nat) (L : Nat) (T : zp_T) : Prop := T.1 ≤ 3 ∧ T.2.1 ≤ T.2.2 ∧ T.2.2 ≤ L ∧ (T.1 ≠ 0 → T.2.1 < T.2.2) ∧ (T.1 = 2 → ∀ i, T.2.1 ≤ i → i < T.2.2 → zp_dig (b i) = true) ∧ (T.1 = 1 → ∀ i, T.2.1 ≤ i → i < T.2.2 → zp_let (b i) = true)
theorem zp_tok_ok {b : Nat → Nat} {L p0 : Nat} (hL : L ≤ 500) (h : p0 ≤ L) : zp_ok b L (zp_tok b L p0) := by
  have h1 := zp_run_b (fun i => zp_sp (b i)) L 501 p0 h
  unfold zp_tok
  generalize zp_run (fun i => zp_sp (b i)) L 501 p0 = p at *
  dsimp only
  by_cases hp : p < L
  · rw [if_neg (fun h9 => h9 hp)]
    by_cases hl : zp_let (b p) = true
    · rw [if_pos hl]
      have h2 := zp_run_b (fun i => zp_let (b i)) L 501 p (by omega)
      have h3 := zp_run_b (fun i => zp_let (b i)) L 501 (p + 1) (by omega)
      rw [← zp_run_step (c := fun i => zp_let (b i)) hL ⟨hp, hl⟩] at h3
      exact ⟨by show 1 ≤ 3; omega, h2.1, h2.2, fun _ => h3.1, fun e => absurd e (by show ¬ 1 = 2; omega), fun _ i h8 h9 => (zp_run_all (fun i => zp_let (b i)) L 501 p i h8 h9).1⟩
    · rw [if_neg hl]
      by_cases hd : zp_dig (b p) = true
      · rw [if_pos hd]
        have h2 := zp_run_b (fun i => zp_dig (b i)) L 501 p (by omega)
        have h3 := zp_run_b (fun i => zp_dig (b i)) L 501 (p + 1) (by omega)
        rw [← zp_run_step (c := fun i => zp_dig (b i)) hL ⟨hp, hd⟩] at h3
        exact ⟨by show 2 ≤ 3; omega, h2.1, h2.2, fun _ => h3.1, fun _ i h8 h9 => (zp_run_all (fun i => zp_dig (b i)) L 501 p i h8 h9).1, fun e => absurd e (by show ¬ 2 = 1; omega)⟩
      · rw [if_neg hd]
        exact ⟨Nat.le_refl _, by show p ≤ p + 1; omega, by show p + 1 ≤ L; omega, fun _ => Nat.lt_succ_self p, fun e => absurd e (by show ¬ 3 = 2; omega), fun e => absurd e (by show ¬ 3 = 1; omega)⟩
  · rw [if_pos hp]
    exact ⟨Nat.zero_le _, Nat.le_refl _, h1.2, fun e => absurd rfl e, fun e => absurd e (by show ¬ 0 = 2; omega), fun e => absurd e (by show ¬ 0 = 1; omega)⟩
section ZTK
variable {G : zPg} {n : Nat} {σ : zS} {m : Nat} {N : Nat → Option Nat} {M M0 : zt_M} {Q : zQ} {Y : zY} {V : zs_V} {b : Nat → Nat} {L : Nat}
/-- the text: its limit, its bytes -/
def zt_tx (b : Nat → Nat) (L : Nat) (M : zt_M) : Prop := L ≤ 500 ∧ M.1 29 = nI L ∧ ∀ i, i < L → M.2.2.1 18 i = nI (b i) ∧ b i < 256
def zt_tk (T : zp_T) (M : zt_M) : Prop := M.1 32 = nI T.1 ∧ M.1 31 = nI T.2.1 ∧ M.1 30 = nI T.2.2
/-- what a scan changes -/
def zt_sk (M M' : zt_M) : Prop := (∀ k, k ≠ 30 → k ≠ 31 → k ≠ 32 → M'.1 k = M.1 k) ∧ M'.2 = M.2
theorem zt_sk.rfl' : zt_sk M M := ⟨fun _ _ _ _ => rfl, rfl⟩
theorem zt_sk.trans {M M' M'' : zt_M} (h : zt_sk M M') (h' : zt_sk M' M'') : zt_sk M M'' := ⟨fun k a b c => (h'.1 k a b c).trans (h.1 k a b c), h'.2.trans h.2⟩
theorem zt_sk.i {k : Nat} {x : Int32} (h : k = 30 ∨ k = 31 ∨ k = 32) : zt_sk M (M.sI k x) := ⟨fun j a b c => va_up_ne _ _ (by omega), rfl⟩
theorem zt_tx.sk {M M' : zt_M} (h : zt_tx b L M) (h' : zt_sk M M') : zt_tx b L M' := ⟨h.1, (h'.1 29 (by omega) (by omega) (by omega)).trans h.2.1, by rw [h'.2]; exact h.2.2⟩
theorem zl_267 (ht : zt_tx b L M) {p : Nat} (hp : p ≤ 1000) : zCall G (n + 1) 267 [.ref m, .int (nI p)] Q Y (zt_S σ m N M) ↔ Q (some (.int (if p < L then nI (b p) else -1))) (zt_S σ m N M) := by
  obtain ⟨h1, h2, h3⟩ := ht
  have e : nI L ≤ nI p ↔ L ≤ p := nI_leI (by omega) (by omega)
  rw [zc_eq (by decide) (b := zb267) rfl]
  simp only [zb267, forall_eq, List.cons.injEq, Value.ref.injEq, Value.int.injEq, Value.long.injEq, and_true, and_assoc, true_and, va_rf_iff, va_rf_iff2, exists_and_left, exists_eq_left', exists_eq_left, ↓zt_rc, ↓zt_g0, ↓zt_g1, ↓zt_g2, ↓zt_g3, ↓zt_g4, ↓zt_g5, ↓zt_g6, ↓zt_g7, ↓zt_g8, ↓zt_g9, ↓zt_g10, ↓zt_g11, ↓zt_g12, ↓zt_g13, ↓zt_g14, ↓zt_g15, ↓zt_g16, ↓zt_g17, ↓zt_g18, ↓zt_g19, ↓zt_g20, ↓zt_g21, ↓zt_g22, ↓zt_g23, ↓zt_g24, ↓zt_g25, ↓zt_g26, ↓zt_g27, ↓zt_g28, ↓zt_g29, ↓zt_g30, ↓zt_g31, ↓zt_g32, ↓zt_g33, ↓zt_g34, ↓zt_g35, ↓zt_g36, ↓zt_g37, ↓zt_g38, ↓zt_g39, ↓zt_g40, ↓zt_a1, ↓zt_a2, ↓zt_a3, ↓zt_a4, ↓zt_a5, ↓zt_a6, ↓zt_a7, ↓zt_a8, ↓zt_a9, ↓zt_a10, ↓zt_a11, ↓zt_a12, ↓zt_a13, ↓zt_a14, ↓zt_a15, ↓zt_a16, ↓zt_a17, ↓zt_a18, ↓zt_a19, ↓zt_a20, ↓zt_a21, ↓zt_l19, ↓zt_l17, forall_eq, ↓zqI_r, ↓zqL_r, ↓zqD_r, ↓zqF_r, ↓zqV_r, ↓zqR_r, ↓zqR_s, zboolb, zbool0, zbool1, true_and, and_true, zJ, h2, e, nI_cl (show p < 2147483648 by omega)]
  by_cases hp' : p < L
  · rw [if_pos hp', (h3 p hp').1]
    exact ⟨fun h => (h.2 (by omega)).2, fun h => ⟨fun h9 => absurd h9 (by omega), fun _ => ⟨nI_i (by omega) (by omega), h⟩⟩⟩
  · rw [if_neg hp']
    exact ⟨fun h => h.1 (by omega), fun h => ⟨fun _ => h, fun h9 => absurd (by omega) h9⟩⟩
theorem zx_by {x lo hi : Nat} (hx : x < 256) (hlo : lo < 1000) (hhi : hi < 1000) : (nI x < nI lo ↔ x < lo) ∧ (nI hi < nI x ↔ hi < x) := ⟨nI_ltI (by omega) (by omega), nI_ltI (by omega) (by omega)⟩
theorem zl_268 (ht : zt_tx b L M) {p : Nat} (hp : p ≤ 1000) : zCall G (n + 2) 268 [.ref m, .int (nI p)] Q Y (zt_S σ m N M) ↔ Q (some (.int (zs_b (p < L ∧ zp_let (b p) = true)))) (zt_S σ m N M) := by
  rw [zc_eq (by decide) (b := zb268) rfl]
  simp only [zb268, forall_eq, List.cons.injEq, Value.ref.injEq, Value.int.injEq, Value.long.injEq, and_true, and_assoc, true_and, va_rf_iff, va_rf_iff2, exists_and_left, exists_eq_left', exists_eq_left, ↓zt_rc, ↓zt_g0, ↓zt_g1, ↓zt_g2, ↓zt_g3, ↓zt_g4, ↓zt_g5, ↓zt_g6, ↓zt_g7, ↓zt_g8, ↓zt_g9, ↓zt_g10, ↓zt_g11, ↓zt_g12, ↓zt_g13, ↓zt_g14, ↓zt_g15, ↓zt_g16, ↓zt_g17, ↓zt_g18, ↓zt_g19, ↓zt_g20, ↓zt_g21, ↓zt_g22, ↓zt_g23, ↓zt_g24, ↓zt_g25, ↓zt_g26, ↓zt_g27, ↓zt_g28, ↓zt_g29, ↓zt_g30, ↓zt_g31, ↓zt_g32, ↓zt_g33, ↓zt_g34, ↓zt_g35, ↓zt_g36, ↓zt_g37, ↓zt_g38, ↓zt_g39, ↓zt_g40, ↓zt_a1, ↓zt_a2, ↓zt_a3, ↓zt_a4, ↓zt_a5, ↓zt_a6, ↓zt_a7, ↓zt_a8, ↓zt_a9, ↓zt_a10, ↓zt_a11, ↓zt_a12, ↓zt_a13, ↓zt_a14, ↓zt_a15, ↓zt_a16, ↓zt_a17, ↓zt_a18, ↓zt_a19, ↓zt_a20, ↓zt_a21, ↓zt_l19, ↓zt_l17, forall_eq, ↓zqI_r, ↓zqL_r, ↓zqD_r, ↓zqF_r, ↓zqV_r, ↓zqR_r, ↓zqR_s, zboolb, zbool0, zbool1, true_and, and_true, zJ, ↓zl_267 ht hp]
  by_cases h : p < L
  · have hb := (ht.2.2 p h).2
    have e1 : nI (b p) < (97 : Int32) ↔ b p < 97 := nI_ltI (b := 97) (by omega) (by omega)
    have e2 : (122 : Int32) < nI (b p) ↔ 122 < b p := nI_ltI (a := 122) (by omega) (by omega)
    simp only [if_pos h, e1, e2]
    unfold zp_let
    by_cases hc : 97 ≤ b p ∧ b p ≤ 122
    · rw [zs_bt ⟨h, decide_eq_true hc⟩]
      exact ⟨fun h9 => (h9.2 (by omega)).2 (by omega), fun h9 => ⟨fun h8 => absurd h8 (by omega), fun _ => ⟨fun h8 => absurd h8 (by omega), fun _ => h9⟩⟩⟩
    · rw [zs_bf (fun h9 => hc (of_decide_eq_true h9.2))]
      by_cases h1 : b p < 97
      · exact ⟨fun h9 => h9.1 h1, fun h9 => ⟨fun _ => h9, fun h8 => absurd h1 h8⟩⟩
      · exact ⟨fun h9 => (h9.2 h1).1 (by omega), fun h9 => ⟨fun h8 => absurd h8 h1, fun _ => ⟨fun _ => h9, fun h8 => absurd (by omega) h8⟩⟩⟩
  · simp only [if_neg h]
    rw [zs_bf (fun h9 => h h9.1)]
    exact ⟨fun h9 => h9.1 (by decide), fun h9 => ⟨fun _ => h9, fun h8 => absurd (by decide) h8⟩⟩
theorem zl_269 (ht : zt_tx b L M) {p : Nat} (hp : p ≤ 1000) : zCall G (n + 2) 269 [.ref m, .int (nI p)] Q Y (zt_S σ m N M) ↔ Q (some (.int (zs_b (p < L ∧ zp_dig (b p) = true)))) (zt_S σ m N M) := by
  rw [zc_eq (by decide) (b := zb269) rfl]
  simp only [zb269, forall_eq, List.cons.injEq, Value.ref.injEq, Value.int.injEq, Value.long.injEq, and_true, and_assoc, true_and, va_rf_iff, va_rf_iff2, exists_and_left, exists_eq_left', exists_eq_left, ↓zt_rc, ↓zt_g0, ↓zt_g1, ↓zt_g2, ↓zt_g3, ↓zt_g4, ↓zt_g5, ↓zt_g6, ↓zt_g7, ↓zt_g8, ↓zt_g9, ↓zt_g10, ↓zt_g11, ↓zt_g12, ↓zt_g13, ↓zt_g14, ↓zt_g15, ↓zt_g16, ↓zt_g17, ↓zt_g18, ↓zt_g19, ↓zt_g20, ↓zt_g21, ↓zt_g22, ↓zt_g23, ↓zt_g24, ↓zt_g25, ↓zt_g26, ↓zt_g27, ↓zt_g28, ↓zt_g29, ↓zt_g30, ↓zt_g31, ↓zt_g32, ↓zt_g33, ↓zt_g34, ↓zt_g35, ↓zt_g36, ↓zt_g37, ↓zt_g38, ↓zt_g39, ↓zt_g40, ↓zt_a1, ↓zt_a2, ↓zt_a3, ↓zt_a4, ↓zt_a5, ↓zt_a6, ↓zt_a7, ↓zt_a8, ↓zt_a9, ↓zt_a10, ↓zt_a11, ↓zt_a12, ↓zt_a13, ↓zt_a14, ↓zt_a15, ↓zt_a16, ↓zt_a17, ↓zt_a18, ↓zt_a19, ↓zt_a20, ↓zt_a21, ↓zt_l19, ↓zt_l17, forall_eq, ↓zqI_r, ↓zqL_r, ↓zqD_r, ↓zqF_r, ↓zqV_r, ↓zqR_r, ↓zqR_s, zboolb, zbool0, zbool1, true_and, and_true, zJ, ↓zl_267 ht hp]
  by_cases h : p < L
  · have hb := (ht.2.2 p h).2
    have e1 : nI (b p) < (48 : Int32) ↔ b p < 48 := nI_ltI (b := 48) (by omega) (by omega)
    have e2 : (57 : Int32) < nI (b p) ↔ 57 < b p := nI_ltI (a := 57) (by omega) (by omega)
    simp only [if_pos h, e1, e2]
    unfold zp_dig
    by_cases hc : 48 ≤ b p ∧ b p ≤ 57
    · rw [zs_bt ⟨h, decide_eq_true hc⟩]
      exact ⟨fun h9 => (h9.2 (by omega)).2 (by omega), fun h9 => ⟨fun h8 => absurd h8 (by omega), fun _ => ⟨fun h8 => absurd h8 (by omega), fun _ => h9⟩⟩⟩
    · rw [zs_bf (fun h9 => hc (of_decide_eq_true h9.2))]
      by_cases h1 : b p < 48
      · exact ⟨fun h9 => h9.1 h1, fun h9 => ⟨fun _ => h9, fun h8 => absurd h1 h8⟩⟩
      · exact ⟨fun h9 => (h9.2 h1).1 (by omega), fun h9 => ⟨fun h8 => absurd h8 h1, fun _ => ⟨fun _ => h9, fun h8 => absurd (by omega) h8⟩⟩⟩
  · simp only [if_neg h]
    rw [zs_bf (fun h9 => h h9.1)]
    exact ⟨fun h9 => h9.1 (by decide), fun h9 => ⟨fun _ => h9, fun h8 => absurd (by decide) h8⟩⟩
end ZTK
