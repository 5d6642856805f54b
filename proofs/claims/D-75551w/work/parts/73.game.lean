/-! THE GAME: what comes of it -/
theorem zfd2 {F : (Int32 → zS → Prop) → Int32 → zS → Prop} (b : Nat) (I : Nat → zS → Prop) (h1 : ∀ (rec : Int32 → zS → Prop) k s, k < b → I (k + 1) s → (∀ s', I k s' → rec (nI k + (-1)) s') → F rec (nI k) s) (h2 : ∀ rec s, I 0 s → F rec (-1) s) {x : Int32} (hx : x = iI ((b : Int) - 1)) {σ : zS} (h0 : I b σ) : ∃ n, zIt (fun _ _ => False) F n x σ := by
  have key : ∀ (k : Nat) (s : zS), k ≤ b → I k s → zIt (fun _ _ => False) F (k + 1) (iI ((k : Int) - 1)) s := by
    intro k
    induction k with
    | zero =>
      intro s _ hI
      exact h2 _ s hI
    | succ k ih =>
      intro s hk hI
      rw [show ((k + 1 : Nat) : Int) - 1 = (k : Int) by omega]
      refine h1 _ k s (by omega) hI (fun s' hI' => ?_)
      have e : nI k + (-1) = iI ((k : Int) - 1) := by
        show iI k + iI (-1) = _
        rw [iI_add]
        congr 1
      rw [e]
      exact ih s' (by omega) hI'
  rw [hx]
  exact ⟨_, key b σ (Nat.le_refl _) h0⟩
def zs_rest (V : zs_V) (s : Nat) : Int := zs_cap V - zs_w V 0 s
def zs_canb (V : zs_V) (s : Nat) : Nat → Bool
  | 0 => false
  | k + 1 => zs_canb V s k || (!s.testBit k && decide (zs_p V k 0 ≤ zs_rest V s))
def zs_can (V : zs_V) (s : Nat) : Bool := zs_canb V s (zs_n V)
def zs_may (V : zs_V) (s t k : Nat) : Bool := !s.testBit k && (decide (zs_p V k 0 ≤ zs_rest V s) && (decide (t = 0) || decide (zs_thr V ≤ zs_rest V s)))
def zs_olf (V : zs_V) (f : Nat → Int) (s t : Nat) (b0 : Int) : Nat → Int
  | 0 => b0
  | k + 1 => if zs_may V s t k = true then (if (if t = 0 then zs_olf V f s t b0 k < f k else f k < zs_olf V f s t b0 k) then f k else zs_olf V f s t b0 k) else zs_olf V f s t b0 k
def zs_gn (V : zs_V) (t k : Nat) : Int := if t = 0 then zs_p V k 1 else -zs_p V k 3
def zs_ol (V : zs_V) : Nat → Nat → Nat → Nat → Int
  | 0, _, _, _ => 0
  | q + 1, s, t, pa => if zs_can V s = true then zs_olf V (fun k => zs_gn V t k + zs_ol V q (s ||| 2 ^ k) (1 - t) 0) s t (if pa = 1 then 0 else zs_ol V q s (1 - t) 1) (zs_n V) else 0
/-- what is not taken yet -/
def zs_un (V : zs_V) (s : Nat) : Nat := fb_ct (fun k => !s.testBit k) (zs_n V)
theorem zs_un_or {V : zs_V} {s k : Nat} (hk : k < zs_n V) (hb : s.testBit k = false) : zs_un V (s ||| 2 ^ k) + 1 = zs_un V s := by
  have h := fb_ct_upd (fun i => !s.testBit i) false hk
  have e : fb_ct (fun i => if i = k then false else !s.testBit i) (zs_n V) = zs_un V (s ||| 2 ^ k) := by
    refine fb_ct_cong (fun i _ => ?_)
    rw [fb_bit_set]
    by_cases hi : i = k
    · simp [hi]
    · simp [hi]
  have h' : zs_un V (s ||| 2 ^ k) + (if (!s.testBit k) = true then 1 else 0) = zs_un V s + 0 := by
    rw [← e]
    exact h
  rw [hb] at h'
  exact h'
theorem zs_olf_cong {V : zs_V} {f g : Nat → Int} {s t : Nat} {b0 : Int} : ∀ {n : Nat}, (∀ k, k < n → zs_may V s t k = true → f k = g k) → zs_olf V f s t b0 n = zs_olf V g s t b0 n
  | 0, _ => rfl
  | n + 1, h => by
    have ih := zs_olf_cong (V := V) (f := f) (g := g) (s := s) (t := t) (b0 := b0) (n := n) (fun k hk => h k (by omega))
    simp only [zs_olf, ih]
    by_cases hm : zs_may V s t n = true
    · rw [if_pos hm, if_pos hm, h n (by omega) hm]
    · rw [if_neg hm, if_neg hm]
theorem zs_olf_b {V : zs_V} {f : Nat → Int} {s t : Nat} {b0 B : Int} (h0 : -B ≤ b0 ∧ b0 ≤ B) : ∀ {n : Nat}, (∀ k, k < n → zs_may V s t k = true → -B ≤ f k ∧ f k ≤ B) → -B ≤ zs_olf V f s t b0 n ∧ zs_olf V f s t b0 n ≤ B
  | 0, _ => h0
  | n + 1, h => by
    have ih := zs_olf_b (V := V) (f := f) (s := s) (t := t) h0 (n := n) (fun k hk => h k (by omega))
    simp only [zs_olf]
    by_cases hm : zs_may V s t n = true
    · rw [if_pos hm]
      have := h n (by omega) hm
      by_cases hc : (if t = 0 then zs_olf V f s t b0 n < f n else f n < zs_olf V f s t b0 n)
      · rw [if_pos hc]; exact this
      · rw [if_neg hc]; exact ih
    · rw [if_neg hm]; exact ih
theorem zs_may_bit {V : zs_V} {s t k : Nat} (h : zs_may V s t k = true) : s.testBit k = false := by
  unfold zs_may at h
  cases hb : s.testBit k with
  | false => rfl
  | true => rw [hb] at h; exact absurd h (by simp)
theorem zs_ol_st {V : zs_V} : ∀ (q q' s t pa : Nat), pa ≤ 1 → 2 * zs_un V s + (1 - pa) < q → 2 * zs_un V s + (1 - pa) < q' → zs_ol V q s t pa = zs_ol V q' s t pa
  | 0, _, _, _, _, _, h, _ => absurd h (by omega)
  | _ + 1, 0, _, _, _, _, _, h => absurd h (by omega)
  | q + 1, q' + 1, s, t, pa, hp, h1, h2 => by
    simp only [zs_ol]
    have e : (if pa = 1 then 0 else zs_ol V q s (1 - t) 1) = (if pa = 1 then 0 else zs_ol V q' s (1 - t) 1) := by
      by_cases h : pa = 1
      · rw [if_pos h, if_pos h]
      · rw [if_neg h, if_neg h]
        exact zs_ol_st q q' s (1 - t) 1 (by omega) (by omega) (by omega)
    rw [e]
    rw [zs_olf_cong (g := fun k => zs_gn V t k + zs_ol V q' (s ||| 2 ^ k) (1 - t) 0) (fun k hk hm => ?_)]
    have hu := zs_un_or hk (zs_may_bit hm)
    show _ + _ = _ + _
    rw [zs_ol_st q q' (s ||| 2 ^ k) (1 - t) 0 (by omega) (by omega) (by omega)]
theorem zs_gn_b {V : zs_V} (h : zs_ok V) {t k : Nat} (hk : k < zs_n V) : -99 ≤ zs_gn V t k ∧ zs_gn V t k ≤ 99 := by
  have h1 := h.pr (f := 1) hk (by omega)
  have h3 := h.pr (f := 3) hk (by omega)
  unfold zs_gn
  by_cases h0 : t = 0
  · rw [if_pos h0]; omega
  · rw [if_neg h0]; omega
theorem zs_ol_b {V : zs_V} (h : zs_ok V) : ∀ (q s t pa : Nat), -(99 * (zs_un V s : Int)) ≤ zs_ol V q s t pa ∧ zs_ol V q s t pa ≤ 99 * (zs_un V s : Int)
  | 0, _, _, _ => by simp only [zs_ol]; omega
  | q + 1, s, t, pa => by
    simp only [zs_ol]
    by_cases hc : zs_can V s = true
    · rw [if_pos hc]
      refine zs_olf_b ?_ (fun k hk hm => ?_)
      · by_cases hp : pa = 1
        · rw [if_pos hp]; omega
        · rw [if_neg hp]; exact zs_ol_b h q s (1 - t) 1
      · have h1 := zs_gn_b h (t := t) hk
        have h2 := zs_ol_b h q (s ||| 2 ^ k) (1 - t) 0
        have hu := zs_un_or hk (zs_may_bit hm)
        omega
    · rw [if_neg hc]; omega
theorem zs_ol_s {V : zs_V} (q s t pa : Nat) : zs_ol V (q + 1) s t pa = if zs_can V s = true then zs_olf V (fun k => zs_gn V t k + zs_ol V q (s ||| 2 ^ k) (1 - t) 0) s t (if pa = 1 then 0 else zs_ol V q s (1 - t) 1) (zs_n V) else 0 := rfl
def zs_O (V : zs_V) (s t pa : Nat) : Int := zs_ol V 64 s t pa
theorem zs_un_le {V : zs_V} (h : zs_ok V) (s : Nat) : zs_un V s ≤ 10 := Nat.le_trans (fb_ct_le _ _) h.n0.2
theorem zs_O_b {V : zs_V} (h : zs_ok V) (s t pa : Nat) : -990 ≤ zs_O V s t pa ∧ zs_O V s t pa ≤ 990 := by
  have h1 := zs_ol_b h 64 s t pa
  have h2 := zs_un_le h s
  unfold zs_O
  omega
theorem zs_O_eq {V : zs_V} (h : zs_ok V) {s t pa : Nat} (hp : pa ≤ 1) : zs_O V s t pa = if zs_can V s = true then zs_olf V (fun k => zs_gn V t k + zs_O V (s ||| 2 ^ k) (1 - t) 0) s t (if pa = 1 then 0 else zs_O V s (1 - t) 1) (zs_n V) else 0 := by
  have hu := zs_un_le h s
  show zs_ol V (63 + 1) s t pa = _
  rw [zs_ol_s]
  have e1 : zs_ol V 63 s (1 - t) 1 = zs_O V s (1 - t) 1 := zs_ol_st 63 64 s (1 - t) 1 (by omega) (by omega) (by omega)
  rw [e1]
  rw [zs_olf_cong (g := fun k => zs_gn V t k + zs_O V (s ||| 2 ^ k) (1 - t) 0) (fun k hk hm => ?_)]
  have hu2 := zs_un_le h (s ||| 2 ^ k)
  show _ + _ = _ + _
  rw [show zs_ol V 63 (s ||| 2 ^ k) (1 - t) 0 = zs_O V (s ||| 2 ^ k) (1 - t) 0 from zs_ol_st 63 64 _ _ _ (by omega) (by omega) (by omega)]
/-- the move: the lowest item that does it -/
def zs_mv (V : zs_V) (s t pa : Nat) : Nat → Option Nat
  | 0 => none
  | k + 1 => match zs_mv V s t pa k with
    | some i => some i
    | none => if zs_may V s t k = true ∧ zs_gn V t k + zs_O V (s ||| 2 ^ k) (1 - t) 0 = zs_O V s t pa then some k else none
section ZT4
variable {G : zPg} {n : Nat} {σ : zS} {m : Nat} {N : Nat → Option Nat} {M : zt_M} {Q : zQ} {Y : zY} {V : zs_V}
theorem zx_it0 (q : Nat) : (11 : Int32) + (4 : Int32) * nI q + 0 = nI (11 + 4 * q) := zx_item q 0
theorem zx_it1 (q : Nat) : (11 : Int32) + (4 : Int32) * nI q + 1 = nI (11 + 4 * q + 1) := zx_item q 1
theorem zx_it3 (q : Nat) : (11 : Int32) + (4 : Int32) * nI q + 3 = nI (11 + 4 * q + 3) := zx_item q 3
theorem zl_of (hM : M.2.2.1 1 = V) (hV : zs_ok V) {k f : Nat} (hk : k < zs_n V) (hf : f ≤ 3) : zCall G (n + 1) 167 [.ref m, .int (nI k), .int (nI f)] Q Y (zt_S σ m N M) ↔ Q (some (.int (iI (zs_p V k f)))) (zt_S σ m N M) := by
  have h := hV.n0.2
  rw [zl_167, zx_item, nI_cl (by omega), hM]
  unfold zs_p
  rw [iI_of]
  exact ⟨fun h => h.2, fun h => ⟨nI_i (by omega) (by omega), h⟩⟩
theorem zl_of0 (hM : M.2.2.1 1 = V) (hV : zs_ok V) {k : Nat} (hk : k < zs_n V) : zCall G (n + 1) 167 [.ref m, .int (nI k), .int 0] Q Y (zt_S σ m N M) ↔ Q (some (.int (iI (zs_p V k 0)))) (zt_S σ m N M) := zl_of (f := 0) hM hV hk (by omega)
theorem zl_of1 (hM : M.2.2.1 1 = V) (hV : zs_ok V) {k : Nat} (hk : k < zs_n V) : zCall G (n + 1) 167 [.ref m, .int (nI k), .int 1] Q Y (zt_S σ m N M) ↔ Q (some (.int (iI (zs_p V k 1)))) (zt_S σ m N M) := zl_of (f := 1) hM hV hk (by omega)
theorem zl_of3 (hM : M.2.2.1 1 = V) (hV : zs_ok V) {k : Nat} (hk : k < zs_n V) : zCall G (n + 1) 167 [.ref m, .int (nI k), .int 3] Q Y (zt_S σ m N M) ↔ Q (some (.int (iI (zs_p V k 3)))) (zt_S σ m N M) := zl_of (f := 3) hM hV hk (by omega)
theorem zl_rest (hM : M.2.2.1 1 = V) (hV : zs_ok V) (hl : zt_ly V M (zs_all V)) {p : Nat} (hp : p < zs_all V) : zCall G (n + 1) 184 [.ref m, .int (nI p)] Q Y (zt_S σ m N M) ↔ Q (some (.int (iI (zs_rest V p)))) (zt_S σ m N M) := by
  have hA := hV.all
  have h5 : M.2.2.1 5 p = iI (zs_w V 0 p) := hl 0 (by omega) p hp
  rw [zl_184, nI_cl (by omega), h5, hM, zs_c1 V, iI_sub]
  exact ⟨fun h => h.2, fun h => ⟨nI_i (by omega) (by omega), h⟩⟩
theorem zs_rest_b {V : zs_V} (h : zs_ok V) (s : Nat) : -990 ≤ zs_rest V s ∧ zs_rest V s ≤ 200 := by
  have h1 := zs_w_b h (f := 0) (by omega) s
  have h2 := h.c1
  unfold zs_rest
  omega
theorem zt_220 (hM : M.2.2.1 1 = V) (hV : zs_ok V) (hl : zt_ly V M (zs_all V)) {s : Nat} (hs : s < zs_all V) (h : Q (some (.int (zs_b (zs_can V s = true)))) (zt_S σ m N M)) : zCall G (n + 2) 220 [.ref m, .int (nI s)] Q Y (zt_S σ m N M) := by
  have hA := hV.all
  have hn := hV.n0
  have hr := zs_rest_b hV s
  refine ze220 ⟨_, _, rfl, ?_⟩
  refine zf2 0 (zs_n V) (fun k s' => s' = zt_S σ m N M ∧ zs_canb V s k = false) (by omega) ?_ ?_ ⟨rfl, rfl⟩
  · rintro rec k s' _ hk ⟨rfl, hno⟩ hrec
    have hp := hV.pr (f := 0) hk (by omega)
    simp only [↓zt_rc, ↓zt_g0, ↓zt_g1, ↓zt_g2, ↓zt_g3, ↓zt_g4, ↓zt_g5, ↓zt_g6, ↓zt_g7, ↓zt_g8, ↓zt_g9, ↓zt_g10, ↓zt_g11, ↓zt_g12, ↓zt_g13, ↓zt_g14, ↓zt_g15, ↓zt_g16, ↓zt_g17, ↓zt_g18, ↓zt_g19, ↓zt_g20, ↓zt_g21, ↓zt_g22, ↓zt_g23, ↓zt_g24, ↓zt_g25, ↓zt_g26, ↓zt_g27, ↓zt_g28, ↓zt_g29, ↓zt_g30, ↓zt_g31, ↓zt_g32, ↓zt_g33, ↓zt_g34, ↓zt_g35, ↓zt_g36, ↓zt_g37, ↓zt_g38, ↓zt_g39, ↓zt_g40, ↓zt_a1, ↓zt_a2, ↓zt_a3, ↓zt_a4, ↓zt_a5, ↓zt_a6, ↓zt_a7, ↓zt_a8, ↓zt_a9, ↓zt_a10, ↓zt_a11, ↓zt_a12, ↓zt_a13, ↓zt_a14, ↓zt_a15, ↓zt_a16, ↓zt_a17, ↓zt_a18, ↓zt_a19, ↓zt_a20, ↓zt_a21, ↓zt_l19, ↓zt_l17, forall_eq, ↓zqI_r, ↓zqL_r, ↓zqD_r, ↓zqF_r, ↓zqV_r, ↓zqR_r, ↓zqR_s, zboolb, zbool0, zbool1, true_and, and_true, ↓zl_159, zJ, ↓zl_of0 hM hV hk, ↓zl_rest hM hV hl hs, hM, hn.1, zn_bit0 (show s < 2147483648 by omega) (show k < 32 by omega), Bool.not_eq_false]
    rw [iI_lt (by omega) (by omega) (by omega) (by omega)]
    refine ⟨fun hle => absurd hle (nI_ge hk (by omega)), fun _ => ⟨fun h1 => hrec _ ⟨rfl, ?_⟩, fun h1 => ⟨fun h2 => hrec _ ⟨rfl, ?_⟩, fun h2 => ?_⟩⟩⟩
    · simp [zs_canb, hno, h1]
    · simp only [zs_canb, hno, h1]
      simp
      omega
    · have hc : zs_can V s = true := by
        have h3 : zs_canb V s (k + 1) = true := by
          simp only [zs_canb, hno, h1]
          simp
          omega
        have mono : ∀ j i, zs_canb V s i = true → zs_canb V s (i + j) = true := by
          intro j
          induction j with
          | zero => intro i h; exact h
          | succ j ih =>
            intro i h
            rw [show i + (j + 1) = (i + j) + 1 by omega]
            simp only [zs_canb, ih i h, Bool.true_or]
        have := mono (zs_n V - (k + 1)) (k + 1) h3
        rw [show k + 1 + (zs_n V - (k + 1)) = zs_n V by omega] at this
        exact this
      rw [zs_bt hc] at h
      exact h
  · rintro rec s' ⟨rfl, hno⟩
    have hc : ¬ zs_can V s = true := by
      unfold zs_can
      rw [hno]
      decide
    rw [zs_bf hc] at h
    simp only [↓zt_rc, ↓zt_g0, ↓zt_g1, ↓zt_g2, ↓zt_g3, ↓zt_g4, ↓zt_g5, ↓zt_g6, ↓zt_g7, ↓zt_g8, ↓zt_g9, ↓zt_g10, ↓zt_g11, ↓zt_g12, ↓zt_g13, ↓zt_g14, ↓zt_g15, ↓zt_g16, ↓zt_g17, ↓zt_g18, ↓zt_g19, ↓zt_g20, ↓zt_g21, ↓zt_g22, ↓zt_g23, ↓zt_g24, ↓zt_g25, ↓zt_g26, ↓zt_g27, ↓zt_g28, ↓zt_g29, ↓zt_g30, ↓zt_g31, ↓zt_g32, ↓zt_g33, ↓zt_g34, ↓zt_g35, ↓zt_g36, ↓zt_g37, ↓zt_g38, ↓zt_g39, ↓zt_g40, ↓zt_a1, ↓zt_a2, ↓zt_a3, ↓zt_a4, ↓zt_a5, ↓zt_a6, ↓zt_a7, ↓zt_a8, ↓zt_a9, ↓zt_a10, ↓zt_a11, ↓zt_a12, ↓zt_a13, ↓zt_a14, ↓zt_a15, ↓zt_a16, ↓zt_a17, ↓zt_a18, ↓zt_a19, ↓zt_a20, ↓zt_a21, ↓zt_l19, ↓zt_l17, forall_eq, ↓zqI_r, ↓zqL_r, ↓zqD_r, ↓zqF_r, ↓zqV_r, ↓zqR_r, ↓zqR_s, zboolb, zbool0, zbool1, true_and, and_true, ↓zl_159, hM, hn.1]
    exact ⟨fun _ => h, fun hn => absurd (nI_le (Nat.le_refl _) (by omega)) hn⟩
theorem zt_223 (hM : M.2.2.1 1 = V) (hV : zs_ok V) (hl : zt_ly V M (zs_all V)) {s t k : Nat} (hs : s < zs_all V) (ht : t ≤ 1) (hk : k < zs_n V) (h : Q (some (.int (zs_b (zs_may V s t k = true)))) (zt_S σ m N M)) : zCall G (n + 2) 223 [.ref m, .int (nI s), .int (nI t), .int (nI k)] Q Y (zt_S σ m N M) := by
  have hA := hV.all
  have hn := hV.n0
  have hr := zs_rest_b hV s
  have hp := hV.pr (f := 0) hk (by omega)
  have hc := hV.c2
  have c2 : V 2 = iI (zs_thr V) := zs_c2 V
  have et : nI t = 0 ↔ t = 0 := by
    show nI t = nI 0 ↔ _
    rw [nI_eq (by omega) (by omega)]
  refine ze223 ⟨_, _, _, _, rfl, ?_⟩
  simp only [↓zt_rc, ↓zt_g0, ↓zt_g1, ↓zt_g2, ↓zt_g3, ↓zt_g4, ↓zt_g5, ↓zt_g6, ↓zt_g7, ↓zt_g8, ↓zt_g9, ↓zt_g10, ↓zt_g11, ↓zt_g12, ↓zt_g13, ↓zt_g14, ↓zt_g15, ↓zt_g16, ↓zt_g17, ↓zt_g18, ↓zt_g19, ↓zt_g20, ↓zt_g21, ↓zt_g22, ↓zt_g23, ↓zt_g24, ↓zt_g25, ↓zt_g26, ↓zt_g27, ↓zt_g28, ↓zt_g29, ↓zt_g30, ↓zt_g31, ↓zt_g32, ↓zt_g33, ↓zt_g34, ↓zt_g35, ↓zt_g36, ↓zt_g37, ↓zt_g38, ↓zt_g39, ↓zt_g40, ↓zt_a1, ↓zt_a2, ↓zt_a3, ↓zt_a4, ↓zt_a5, ↓zt_a6, ↓zt_a7, ↓zt_a8, ↓zt_a9, ↓zt_a10, ↓zt_a11, ↓zt_a12, ↓zt_a13, ↓zt_a14, ↓zt_a15, ↓zt_a16, ↓zt_a17, ↓zt_a18, ↓zt_a19, ↓zt_a20, ↓zt_a21, ↓zt_l19, ↓zt_l17, forall_eq, ↓zqI_r, ↓zqL_r, ↓zqD_r, ↓zqF_r, ↓zqV_r, ↓zqR_r, ↓zqR_s, zboolb, zbool0, zbool1, true_and, and_true, zJ, zi_0, zj_0, zi_1, zj_1, zi_2, zj_2, zi_3, zj_3, zi_4, zj_4, zi_5, zj_5, zi_6, zj_6, zi_7, zj_7, zi_8, zj_8, zi_9, zj_9, zi_10, zj_10, true_and, and_true, ↓zl_of0 hM hV hk, ↓zl_rest hM hV hl hs, hM, c2, zn_bit0 (show s < 2147483648 by omega) (show k < 32 by omega), Bool.not_eq_false, et]
  rw [iI_lt (by omega) (by omega) (by omega) (by omega), iI_lt (by omega) (by omega) (by omega) (by omega)]
  have e10 : ((1 : Int32) = 0) = False := by decide
  simp only [e10, not_true, not_false_eq_true, true_implies, false_implies, and_true, true_and]
  have hb : ∀ b : Bool, zs_may V s t k = b → Q (some (.int (if b then 1 else 0))) (zt_S σ m N M) := by
    intro b hb
    rw [hb] at h
    cases b with
    | false => exact h
    | true => exact h
  refine ⟨fun h1 => hb false (by simp [zs_may, h1]), fun h1 => ⟨fun h2 => hb false ?_, fun h2 => ⟨fun h3 => hb true ?_, fun h3 => ⟨fun h4 => hb false ?_, fun h4 => hb true ?_⟩⟩⟩⟩
  · simp [zs_may, h1]
    intro h9
    omega
  · simp [zs_may, h1, h3]
    omega
  · simp [zs_may, h1, h3]
    intro h9
    omega
  · simp [zs_may, h1, h3]
    omega
theorem zt_217 (hM : M.2.2.1 1 = V) (hV : zs_ok V) {a b : Nat} (ha : a < zs_all V) (hb : b < zs_all V) (h6 : V 6 = nI a) (h7 : V 7 = nI b) (h : Q (some (.int (iI (zs_w V 1 a - zs_w V 3 b)))) (zt_S σ m N M)) : zCall G (n + 3) 217 [.ref m] Q Y (zt_S σ m N M) := by
  have hA := hV.all
  refine ze217 ⟨_, rfl, ?_⟩
  simp only [↓zt_rc, ↓zt_g0, ↓zt_g1, ↓zt_g2, ↓zt_g3, ↓zt_g4, ↓zt_g5, ↓zt_g6, ↓zt_g7, ↓zt_g8, ↓zt_g9, ↓zt_g10, ↓zt_g11, ↓zt_g12, ↓zt_g13, ↓zt_g14, ↓zt_g15, ↓zt_g16, ↓zt_g17, ↓zt_g18, ↓zt_g19, ↓zt_g20, ↓zt_g21, ↓zt_g22, ↓zt_g23, ↓zt_g24, ↓zt_g25, ↓zt_g26, ↓zt_g27, ↓zt_g28, ↓zt_g29, ↓zt_g30, ↓zt_g31, ↓zt_g32, ↓zt_g33, ↓zt_g34, ↓zt_g35, ↓zt_g36, ↓zt_g37, ↓zt_g38, ↓zt_g39, ↓zt_g40, ↓zt_a1, ↓zt_a2, ↓zt_a3, ↓zt_a4, ↓zt_a5, ↓zt_a6, ↓zt_a7, ↓zt_a8, ↓zt_a9, ↓zt_a10, ↓zt_a11, ↓zt_a12, ↓zt_a13, ↓zt_a14, ↓zt_a15, ↓zt_a16, ↓zt_a17, ↓zt_a18, ↓zt_a19, ↓zt_a20, ↓zt_a21, ↓zt_l19, ↓zt_l17, forall_eq, ↓zqI_r, ↓zqL_r, ↓zqD_r, ↓zqF_r, ↓zqV_r, ↓zqR_r, ↓zqR_s, zboolb, zbool0, zbool1, true_and, and_true, zi_0, zj_0, zi_1, zj_1, zi_2, zj_2, zi_3, zj_3, zi_4, zj_4, zi_5, zj_5, zi_6, zj_6, zi_7, zj_7, zi_8, zj_8, zi_9, zj_9, zi_10, zj_10, true_and, and_true, hM, h6]
  refine zt_161 hM hV (f := 1) (by omega) (by omega) ?_
  simp only [↓zt_rc, ↓zt_g0, ↓zt_g1, ↓zt_g2, ↓zt_g3, ↓zt_g4, ↓zt_g5, ↓zt_g6, ↓zt_g7, ↓zt_g8, ↓zt_g9, ↓zt_g10, ↓zt_g11, ↓zt_g12, ↓zt_g13, ↓zt_g14, ↓zt_g15, ↓zt_g16, ↓zt_g17, ↓zt_g18, ↓zt_g19, ↓zt_g20, ↓zt_g21, ↓zt_g22, ↓zt_g23, ↓zt_g24, ↓zt_g25, ↓zt_g26, ↓zt_g27, ↓zt_g28, ↓zt_g29, ↓zt_g30, ↓zt_g31, ↓zt_g32, ↓zt_g33, ↓zt_g34, ↓zt_g35, ↓zt_g36, ↓zt_g37, ↓zt_g38, ↓zt_g39, ↓zt_g40, ↓zt_a1, ↓zt_a2, ↓zt_a3, ↓zt_a4, ↓zt_a5, ↓zt_a6, ↓zt_a7, ↓zt_a8, ↓zt_a9, ↓zt_a10, ↓zt_a11, ↓zt_a12, ↓zt_a13, ↓zt_a14, ↓zt_a15, ↓zt_a16, ↓zt_a17, ↓zt_a18, ↓zt_a19, ↓zt_a20, ↓zt_a21, ↓zt_l19, ↓zt_l17, forall_eq, ↓zqI_r, ↓zqL_r, ↓zqD_r, ↓zqF_r, ↓zqV_r, ↓zqR_r, ↓zqR_s, zboolb, zbool0, zbool1, true_and, and_true, zi_0, zj_0, zi_1, zj_1, zi_2, zj_2, zi_3, zj_3, zi_4, zj_4, zi_5, zj_5, zi_6, zj_6, zi_7, zj_7, zi_8, zj_8, zi_9, zj_9, zi_10, zj_10, true_and, and_true, hM, h7]
  refine zt_161 hM hV (f := 3) (by omega) (by omega) ?_
  simp only [forall_eq, ↓zqI_r, ↓zqL_r, ↓zqD_r, ↓zqF_r, ↓zqV_r, ↓zqR_r, ↓zqR_s, iI_sub]
  exact h
/-- over: passed twice, or nothing fits -/
def zs_over (V : zs_V) (s : Nat) : Prop := V 9 = 2 ∨ zs_can V s = false
theorem zt_219 (hm : G.1 ≤ m) (hM : M.2.2.1 1 = V) (hV : zs_ok V) {s : Nat} (hs : s < zs_all V) (hu : V 6 ||| V 7 = nI s) (h1 : zs_over V s → ∀ M', zt_kp 5 8 M M' → zt_ly V M' (zs_all V) → Q (some (.int 1)) (zt_S σ m N M')) (h0 : ¬ zs_over V s → ∀ M', zt_kp 5 8 M M' → zt_ly V M' (zs_all V) → Q (some (.int 0)) (zt_S σ m N M')) : zCall G (n + 4) 219 [.ref m] Q Y (zt_S σ m N M) := by
  refine ze219 ⟨_, rfl, ?_⟩
  simp only [↓zt_rc, ↓zt_g0, ↓zt_g1, ↓zt_g2, ↓zt_g3, ↓zt_g4, ↓zt_g5, ↓zt_g6, ↓zt_g7, ↓zt_g8, ↓zt_g9, ↓zt_g10, ↓zt_g11, ↓zt_g12, ↓zt_g13, ↓zt_g14, ↓zt_g15, ↓zt_g16, ↓zt_g17, ↓zt_g18, ↓zt_g19, ↓zt_g20, ↓zt_g21, ↓zt_g22, ↓zt_g23, ↓zt_g24, ↓zt_g25, ↓zt_g26, ↓zt_g27, ↓zt_g28, ↓zt_g29, ↓zt_g30, ↓zt_g31, ↓zt_g32, ↓zt_g33, ↓zt_g34, ↓zt_g35, ↓zt_g36, ↓zt_g37, ↓zt_g38, ↓zt_g39, ↓zt_g40, ↓zt_p4 hm, ↓zt_p5 hm, ↓zt_p6 hm, ↓zt_p15 hm, ↓zt_p21 hm, ↓zt_p22 hm, ↓zt_p23 hm, ↓zt_p26 hm, ↓zt_p28 hm, ↓zt_p29 hm, ↓zt_p30 hm, ↓zt_p31 hm, ↓zt_p32 hm, ↓zt_p33 hm, ↓zt_p34 hm, ↓zt_p35 hm, ↓zt_p36 hm, ↓zt_p40 hm, ↓zt_p19 hm, ↓zt_p20 hm, ↓zt_a1, ↓zt_a2, ↓zt_a3, ↓zt_a4, ↓zt_a5, ↓zt_a6, ↓zt_a7, ↓zt_a8, ↓zt_a9, ↓zt_a10, ↓zt_a11, ↓zt_a12, ↓zt_a13, ↓zt_a14, ↓zt_a15, ↓zt_a16, ↓zt_a17, ↓zt_a18, ↓zt_a19, ↓zt_a20, ↓zt_a21, ↓zt_s1 hm, ↓zt_s2 hm, ↓zt_s3 hm, ↓zt_s4 hm, ↓zt_s5 hm, ↓zt_s6 hm, ↓zt_s7 hm, ↓zt_s8 hm, ↓zt_s9 hm, ↓zt_s10 hm, ↓zt_s11 hm, ↓zt_s12 hm, ↓zt_s16 hm, ↓zt_s17 hm, ↓zt_s18 hm, ↓zt_s20 hm, ↓zt_s13 hm, ↓zt_s14 hm, ↓zt_s15 hm, ↓zt_s21 hm, ↓zt_l19, ↓zt_l17, forall_eq, ↓zqI_r, ↓zqL_r, ↓zqD_r, ↓zqF_r, ↓zqV_r, ↓zqR_r, ↓zqR_s, zboolb, zbool0, zbool1, true_and, and_true]
  refine zt_172 hm hM hV (fun M' hk hl => ?_)
  have e1 : M'.2.2.1 1 = V := (hk.2.2.2 1 (by omega)).trans hM
  simp only [↓zt_rc, ↓zt_g0, ↓zt_g1, ↓zt_g2, ↓zt_g3, ↓zt_g4, ↓zt_g5, ↓zt_g6, ↓zt_g7, ↓zt_g8, ↓zt_g9, ↓zt_g10, ↓zt_g11, ↓zt_g12, ↓zt_g13, ↓zt_g14, ↓zt_g15, ↓zt_g16, ↓zt_g17, ↓zt_g18, ↓zt_g19, ↓zt_g20, ↓zt_g21, ↓zt_g22, ↓zt_g23, ↓zt_g24, ↓zt_g25, ↓zt_g26, ↓zt_g27, ↓zt_g28, ↓zt_g29, ↓zt_g30, ↓zt_g31, ↓zt_g32, ↓zt_g33, ↓zt_g34, ↓zt_g35, ↓zt_g36, ↓zt_g37, ↓zt_g38, ↓zt_g39, ↓zt_g40, ↓zt_p4 hm, ↓zt_p5 hm, ↓zt_p6 hm, ↓zt_p15 hm, ↓zt_p21 hm, ↓zt_p22 hm, ↓zt_p23 hm, ↓zt_p26 hm, ↓zt_p28 hm, ↓zt_p29 hm, ↓zt_p30 hm, ↓zt_p31 hm, ↓zt_p32 hm, ↓zt_p33 hm, ↓zt_p34 hm, ↓zt_p35 hm, ↓zt_p36 hm, ↓zt_p40 hm, ↓zt_p19 hm, ↓zt_p20 hm, ↓zt_a1, ↓zt_a2, ↓zt_a3, ↓zt_a4, ↓zt_a5, ↓zt_a6, ↓zt_a7, ↓zt_a8, ↓zt_a9, ↓zt_a10, ↓zt_a11, ↓zt_a12, ↓zt_a13, ↓zt_a14, ↓zt_a15, ↓zt_a16, ↓zt_a17, ↓zt_a18, ↓zt_a19, ↓zt_a20, ↓zt_a21, ↓zt_s1 hm, ↓zt_s2 hm, ↓zt_s3 hm, ↓zt_s4 hm, ↓zt_s5 hm, ↓zt_s6 hm, ↓zt_s7 hm, ↓zt_s8 hm, ↓zt_s9 hm, ↓zt_s10 hm, ↓zt_s11 hm, ↓zt_s12 hm, ↓zt_s16 hm, ↓zt_s17 hm, ↓zt_s18 hm, ↓zt_s20 hm, ↓zt_s13 hm, ↓zt_s14 hm, ↓zt_s15 hm, ↓zt_s21 hm, ↓zt_l19, ↓zt_l17, forall_eq, ↓zqI_r, ↓zqL_r, ↓zqD_r, ↓zqF_r, ↓zqV_r, ↓zqR_r, ↓zqR_s, zboolb, zbool0, zbool1, true_and, and_true, zi_0, zj_0, zi_1, zj_1, zi_2, zj_2, zi_3, zj_3, zi_4, zj_4, zi_5, zj_5, zi_6, zj_6, zi_7, zj_7, zi_8, zj_8, zi_9, zj_9, zi_10, zj_10, true_and, and_true, zJ, ↓zl_216, e1, hu]
  refine ⟨fun h9 => h1 (Or.inl h9) M' hk hl, fun h9 => zt_220 e1 hV hl hs ?_⟩
  simp only [↓zt_rc, ↓zt_g0, ↓zt_g1, ↓zt_g2, ↓zt_g3, ↓zt_g4, ↓zt_g5, ↓zt_g6, ↓zt_g7, ↓zt_g8, ↓zt_g9, ↓zt_g10, ↓zt_g11, ↓zt_g12, ↓zt_g13, ↓zt_g14, ↓zt_g15, ↓zt_g16, ↓zt_g17, ↓zt_g18, ↓zt_g19, ↓zt_g20, ↓zt_g21, ↓zt_g22, ↓zt_g23, ↓zt_g24, ↓zt_g25, ↓zt_g26, ↓zt_g27, ↓zt_g28, ↓zt_g29, ↓zt_g30, ↓zt_g31, ↓zt_g32, ↓zt_g33, ↓zt_g34, ↓zt_g35, ↓zt_g36, ↓zt_g37, ↓zt_g38, ↓zt_g39, ↓zt_g40, ↓zt_p4 hm, ↓zt_p5 hm, ↓zt_p6 hm, ↓zt_p15 hm, ↓zt_p21 hm, ↓zt_p22 hm, ↓zt_p23 hm, ↓zt_p26 hm, ↓zt_p28 hm, ↓zt_p29 hm, ↓zt_p30 hm, ↓zt_p31 hm, ↓zt_p32 hm, ↓zt_p33 hm, ↓zt_p34 hm, ↓zt_p35 hm, ↓zt_p36 hm, ↓zt_p40 hm, ↓zt_p19 hm, ↓zt_p20 hm, ↓zt_a1, ↓zt_a2, ↓zt_a3, ↓zt_a4, ↓zt_a5, ↓zt_a6, ↓zt_a7, ↓zt_a8, ↓zt_a9, ↓zt_a10, ↓zt_a11, ↓zt_a12, ↓zt_a13, ↓zt_a14, ↓zt_a15, ↓zt_a16, ↓zt_a17, ↓zt_a18, ↓zt_a19, ↓zt_a20, ↓zt_a21, ↓zt_s1 hm, ↓zt_s2 hm, ↓zt_s3 hm, ↓zt_s4 hm, ↓zt_s5 hm, ↓zt_s6 hm, ↓zt_s7 hm, ↓zt_s8 hm, ↓zt_s9 hm, ↓zt_s10 hm, ↓zt_s11 hm, ↓zt_s12 hm, ↓zt_s16 hm, ↓zt_s17 hm, ↓zt_s18 hm, ↓zt_s20 hm, ↓zt_s13 hm, ↓zt_s14 hm, ↓zt_s15 hm, ↓zt_s21 hm, ↓zt_l19, ↓zt_l17, forall_eq, ↓zqI_r, ↓zqL_r, ↓zqD_r, ↓zqF_r, ↓zqV_r, ↓zqR_r, ↓zqR_s, zboolb, zbool0, zbool1, true_and, and_true, zs_b0, Classical.not_not]
  refine ⟨fun hc => h0 (fun ho => ?_) M' hk hl, fun hc => h1 (Or.inr (by simpa using hc)) M' hk hl⟩
  rcases ho with ho | ho
  · exact h9 ho
  · rw [ho] at hc; cases hc
end ZT4
