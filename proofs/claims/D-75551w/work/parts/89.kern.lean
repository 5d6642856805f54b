/-! EVERY GAME HAS A GOOD KERNEL -/
theorem zk_dt_cong : ∀ (k : Nat) {b b' : Nat → Nat → Int}, (∀ i j, i < k → j < k → b i j = b' i j) → zk_dt k b = zk_dt k b'
  | 0, _, _, _ => rfl
  | k + 1, b, b', h => by
    simp only [zk_dt]
    refine fb_si_cong (fun c hc => ?_)
    rw [h 0 c (by omega) hc, zk_dt_cong k (b' := fun i j => b' (i + 1) (zk_sk c j)) (fun i j hi hj => h _ _ (by omega) (by unfold zk_sk; by_cases hh : j < c <;> simp only [hh, if_true, if_false] <;> omega))]
theorem zk_cf_tr {k : Nat} (hk5 : k ≤ 5) (b : Nat → Nat → Int) (i j : Nat) : zk_cf k (fun x y => b y x) j i = zk_cf k b i j := by
  unfold zk_cf
  rw [show j + i = i + j by omega]
  congr 1
  exact zk_TRall hk5 (fun p q => b (zk_sk i p) (zk_sk j q))
theorem zk_Arow {k : Nat} (hk : 1 ≤ k) (hk5 : k ≤ 5) {ip i : Nat} (hip : ip < k) (hi : i < k) (b : Nat → Nat → Int) : fb_si (fun j => zk_cf (k - 1) b ip j * b i j) k = if i = ip then zk_dt k b else 0 := by
  have h := zk_Aall hk hk5 hip hi (fun x y => b y x)
  rw [zk_TRall hk5 b] at h
  rw [← h]
  exact fb_si_cong (fun j _ => by rw [zk_cf_tr (by omega)])
theorem zs_X_cf {k : Nat} (hk : 1 ≤ k) (hk5 : k ≤ 5) {o : Nat} (ho : o < k) (b : Nat → Nat → Int) : zs_X k b o = fb_si (fun j => zk_cf (k - 1) b o j) k := (zk_Tall hk hk5 ho b).symm
theorem zs_X_sh {k : Nat} (b : Nat → Nat → Int) (t : Int) (o : Nat) : zs_X k (fun x y => b x y + t) o = zs_X k b o := by
  unfold zs_X
  congr 2
  funext p q
  dsimp only
  omega
/-- a determinant that vanishes: the rows depend on each other -/
theorem zk_dep (B : Nat → Nat → Int) (k : Nat) : ∀ p, p ≤ 5 → (∀ J : Nat → Nat, (∀ a, a < p → J a < k) → (∀ a b, a < b → b < p → J a < J b) → zk_dt p (fun i a => B i (J a)) = 0) → ∃ z : Nat → Int, (∃ i, i < p ∧ z i ≠ 0) ∧ ∀ j, j < k → fb_si (fun i => z i * B i j) p = 0
  | 0, _, h => by
    have := h (fun _ => 0) (fun a ha => absurd ha (by omega)) (fun a b _ hb => absurd hb (by omega))
    simp [zk_dt] at this
  | p + 1, hp, h => by
    by_cases hc : ∃ J : Nat → Nat, (∀ a, a < p → J a < k) ∧ (∀ a b, a < b → b < p → J a < J b) ∧ zk_dt p (fun i a => B i (J a)) ≠ 0
    · obtain ⟨J, h1, h2, h3⟩ := hc
      refine ⟨fun i => zk_sg (i + p) * zk_dt p (fun P q => B (zk_sk i P) (J q)), ⟨p, by omega, ?_⟩, fun j hj => ?_⟩
      · have e1 : zk_dt p (fun P q => B (zk_sk p P) (J q)) = zk_dt p (fun i a => B i (J a)) := zk_dt_cong p (fun i j hi hj => by unfold zk_sk; rw [if_pos hi])
        show zk_sg (p + p) * zk_dt p (fun P q => B (zk_sk p P) (J q)) ≠ 0
        rw [e1]
        have e2 : zk_sg (p + p) = 1 := by unfold zk_sg; rw [if_pos (by omega)]
        rw [e2, Int.one_mul]
        exact h3
      · have hz : ∀ i, i < p + 1 → zk_sg (i + p) * zk_dt p (fun P q => B (zk_sk i P) (J q)) = zk_cf (p + 1 - 1) (fun i a => B i (if a < p then J a else j)) i p := by
          intro i hi
          unfold zk_cf
          congr 1
          refine zk_dt_cong p (fun P q hP hq => ?_)
          have e : zk_sk p q = q := by unfold zk_sk; rw [if_pos hq]
          rw [e]
          dsimp only
          rw [if_pos hq]
        have e1 : fb_si (fun i => zk_sg (i + p) * zk_dt p (fun P q => B (zk_sk i P) (J q)) * B i j) (p + 1) = fb_si (fun i => zk_cf (p + 1 - 1) (fun i a => B i (if a < p then J a else j)) i p * B i j) (p + 1) := fb_si_cong (fun i hi => by rw [hz i hi])
        rw [e1]
        by_cases hin : ∃ a, a < p ∧ J a = j
        · obtain ⟨a, ha, hja⟩ := hin
          have h5 := zk_Aall (k := p + 1) (by omega) (by omega) (jp := p) (j := a) (by omega) (by omega) (fun i a => B i (if a < p then J a else j))
          rw [if_neg (show ¬ a = p by omega)] at h5
          rw [← h5]
          refine fb_si_cong (fun i _ => ?_)
          show _ = _ * B i (if a < p then J a else j)
          rw [if_pos ha, hja]
        · have h5 := zk_Aall (k := p + 1) (by omega) (by omega) (jp := p) (j := p) (by omega) (by omega) (fun i a => B i (if a < p then J a else j))
          rw [if_pos rfl] at h5
          have e2 : fb_si (fun i => zk_cf (p + 1 - 1) (fun i a => B i (if a < p then J a else j)) i p * B i j) (p + 1) = zk_dt (p + 1) (fun i a => B i (if a < p then J a else j)) := by
            rw [← h5]
            refine fb_si_cong (fun i _ => ?_)
            show _ = _ * B i (if p < p then J p else j)
            rw [if_neg (by omega)]
          rw [e2]
          obtain ⟨t, ht, ht1, ht2⟩ : ∃ t, t ≤ p ∧ (∀ a, a < t → J a < j) ∧ (∀ a, t ≤ a → a < p → j < J a) := by
            have key : ∀ q, q ≤ p → ∃ t, t ≤ q ∧ (∀ a, a < t → J a < j) ∧ (∀ a, t ≤ a → a < q → j < J a) := by
              intro q
              induction q with
              | zero => intro _; exact ⟨0, by omega, fun a h => absurd h (by omega), fun a _ h => absurd h (by omega)⟩
              | succ q ih =>
                intro hq
                obtain ⟨t, a1, a2, a3⟩ := ih (by omega)
                by_cases hjq : J q < j
                · refine ⟨q + 1, by omega, fun a ha => ?_, fun a h h' => absurd h' (by omega)⟩
                  by_cases e : a = q
                  · subst e; exact hjq
                  · have := h2 a q (by omega) (by omega)
                    omega
                · refine ⟨t, by omega, a2, fun a ha1 ha2 => ?_⟩
                  by_cases e : a = q
                  · subst e
                    have : J a ≠ j := fun e => hin ⟨a, by omega, e⟩
                    omega
                  · exact a3 a ha1 (by omega)
            exact key p (Nat.le_refl _)
          rw [zk_Eall (k := p + 1) (by omega) (by omega) (t := t) (by omega)]
          have h6 := h (fun a => if a < t then J a else if a = t then j else J (a - 1)) ?_ ?_
          · have e3 : zk_dt (p + 1) (fun i a => B i (if (if a < t then a else if a = t then p + 1 - 1 else a - 1) < p then J (if a < t then a else if a = t then p + 1 - 1 else a - 1) else j)) = zk_dt (p + 1) (fun i a => B i (if a < t then J a else if a = t then j else J (a - 1))) := by
              refine zk_dt_cong (p + 1) (fun i a _ ha => ?_)
              by_cases c1 : a < t
              · simp only [if_pos c1]
                rw [if_pos (by omega)]
              · by_cases c2 : a = t
                · simp only [if_neg c1, if_pos c2]
                  rw [if_neg (by omega)]
                · simp only [if_neg c1, if_neg c2]
                  rw [if_pos (by omega)]
            rw [e3, h6, Int.mul_zero]
          · intro a ha
            by_cases c1 : a < t
            · simp only [if_pos c1]; exact h1 a (by omega)
            · by_cases c2 : a = t
              · simp only [if_neg c1, if_pos c2]; exact hj
              · simp only [if_neg c1, if_neg c2]; exact h1 (a - 1) (by omega)
          · intro a b hab hb
            by_cases c1 : a < t
            · by_cases d1 : b < t
              · simp only [if_pos c1, if_pos d1]; exact h2 a b hab (by omega)
              · by_cases d2 : b = t
                · simp only [if_pos c1, if_neg d1, if_pos d2]; exact ht1 a c1
                · simp only [if_pos c1, if_neg d1, if_neg d2]; have := ht1 a c1; have := ht2 (b - 1) (by omega) (by omega); omega
            · by_cases c2 : a = t
              · simp only [if_neg c1, if_pos c2, if_neg (show ¬ b < t by omega), if_neg (show ¬ b = t by omega)]
                exact ht2 (b - 1) (by omega) (by omega)
              · simp only [if_neg c1, if_neg c2, if_neg (show ¬ b < t by omega), if_neg (show ¬ b = t by omega)]
                exact h2 (a - 1) (b - 1) (by omega) (by omega)
    · obtain ⟨z, ⟨i, hi, hzi⟩, hz⟩ := zk_dep B k p (by omega) (fun J a1 a2 => Classical.byContradiction fun hn => hc ⟨J, a1, a2, hn⟩)
      refine ⟨fun q => if q < p then z q else 0, ⟨i, by omega, by simp only [if_pos hi]; exact hzi⟩, fun j hj => ?_⟩
      have e : fb_si (fun i => (if i < p then z i else 0) * B i j) (p + 1) = fb_si (fun i => z i * B i j) p + 0 := by
        rw [fb_si_succ, if_neg (by omega), Int.zero_mul]
        congr 1
        exact fb_si_cong (fun q hq => by rw [if_pos hq])
      rw [e, hz j hj]
      rfl
theorem zk_dep0 {B : Nat → Nat → Int} {k : Nat} (hk : k ≤ 5) (h : zk_dt k B = 0) : ∃ z : Nat → Int, (∃ i, i < k ∧ z i ≠ 0) ∧ ∀ j, j < k → fb_si (fun i => z i * B i j) k = 0 := by
  refine zk_dep B k k hk (fun J h1 h2 => ?_)
  have lo : ∀ a, a < k → a ≤ J a := by
    intro a
    induction a with
    | zero => intro _; omega
    | succ a ih =>
      intro ha
      have := ih (by omega)
      have := h2 a (a + 1) (by omega) ha
      omega
  have hi : ∀ d a, a + d + 1 = k → J a ≤ a := by
    intro d
    induction d with
    | zero =>
      intro a ha
      have := h1 a (by omega)
      omega
    | succ d ih =>
      intro a ha
      have h3 := ih (a + 1) (by omega)
      have := h2 a (a + 1) (by omega) (by omega)
      omega
  rw [← h]
  exact zk_dt_cong k (fun i a _ ha => by
    have e : J a = a := by
      have := lo a ha
      have := hi (k - a - 1) a (by omega)
      omega
    rw [e])
/-! sums of whole numbers as rationals -/
theorem zk_cast_si (f : Nat → Int) : ∀ n, ((fb_si f n : Int) : Rat) = zk_s (fun i => (f i : Rat)) n
  | 0 => rfl
  | n + 1 => by
    rw [fb_si_succ, Rat.intCast_add, zk_cast_si f n]
    rfl
theorem zk_s_en {R : Nat → Bool} {r : Nat → Nat} {f : Nat → Rat} : ∀ m, (∀ i, i < m → R i = true → r (fb_ct R i) = i) → (∀ i, i < m → R i = false → f i = 0) → zk_s f m = zk_s (fun t => f (r t)) (fb_ct R m)
  | 0, _, _ => rfl
  | m + 1, h1, h2 => by
    have ih := zk_s_en (R := R) (r := r) (f := f) m (fun i hi => h1 i (by omega)) (fun i hi => h2 i (by omega))
    rw [fb_ct_succ]
    simp only [zk_s, ih]
    by_cases hb : R m = true
    · rw [if_pos hb]
      simp only [zk_s]
      rw [h1 m (by omega) hb]
    · have hb' : R m = false := by simpa using hb
      rw [if_neg hb, h2 m (by omega) hb', Rat.add_zero]
      rfl
/-- the cofactors' sums are the weights, times the determinant -/
theorem zk_KX {k : Nat} (hk : 1 ≤ k) (hk5 : k ≤ 5) (b : Nat → Nat → Int) (w : Nat → Rat) (hw : ∀ j, j < k → zk_s (fun t => w t * (b t j : Rat)) k = 1) {o : Nat} (ho : o < k) : ((zs_X k b o : Int) : Rat) = (zk_dt k b : Rat) * w o := by
  rw [zs_X_cf hk hk5 ho, zk_cast_si]
  have e1 : zk_s (fun j => ((zk_cf (k - 1) b o j : Int) : Rat)) k = zk_s (fun j => zk_s (fun t => w t * ((zk_cf (k - 1) b o j : Int) : Rat) * (b t j : Rat)) k) k := by
    refine zk_s_cong (fun j hj => ?_)
    have : zk_s (fun t => w t * ((zk_cf (k - 1) b o j : Int) : Rat) * (b t j : Rat)) k = ((zk_cf (k - 1) b o j : Int) : Rat) * zk_s (fun t => w t * (b t j : Rat)) k := by
      rw [← zk_s_mul]
      exact zk_s_cong (fun t _ => by grind)
    rw [this, hw j hj]
    grind
  rw [e1, zk_s_swap]
  have e2 : ∀ t, t < k → zk_s (fun j => w t * ((zk_cf (k - 1) b o j : Int) : Rat) * (b t j : Rat)) k = w t * (if t = o then (zk_dt k b : Rat) else 0) := by
    intro t ht
    have h := zk_Arow hk hk5 ho ht b
    have h' : ((fb_si (fun j => zk_cf (k - 1) b o j * b t j) k : Int) : Rat) = (if t = o then (zk_dt k b : Rat) else 0) := by
      rw [h]
      by_cases e : t = o
      · rw [if_pos e, if_pos e]
      · rw [if_neg e, if_neg e]
        rfl
    rw [← h', zk_cast_si, ← zk_s_mul]
    refine zk_s_cong (fun j _ => ?_)
    rw [Rat.intCast_mul]
    grind
  rw [zk_s_cong e2, zk_s_one o ho (fun t _ hne => by rw [if_neg hne]; grind), if_pos rfl]
  grind
theorem zs_sc_of {S X D : Int} {s t : Rat} (hD : D ≠ 0) (hS : (S : Rat) = (D : Rat) * s) (hX : (X : Rat) = (D : Rat) * t) (hs : 0 < s) (ht : 0 ≤ t) : S ≠ 0 ∧ zs_sc S X := by
  have hD' : (D : Rat) ≠ 0 := by
    intro e
    exact hD (by exact_mod_cast e)
  constructor
  · intro e
    rw [e] at hS
    have h0 : (D : Rat) * s = 0 := hS.symm
    rcases Rat.mul_eq_zero.mp h0 with h | h
    · exact hD' h
    · rw [h] at hs; exact absurd hs Rat.lt_irrefl
  · unfold zs_sc
    by_cases h0 : t = 0
    · left
      rw [h0, Rat.mul_zero] at hX
      exact_mod_cast hX
    · right
      have ht' : 0 < t := Rat.lt_of_le_of_ne ht (Ne.symm h0)
      have a1 : 0 < X ↔ 0 < D := by
        rw [← Rat.intCast_pos, hX, Rat.mul_pos_iff_of_pos_right ht', Rat.intCast_pos]
      have a2 : 0 < S ↔ 0 < D := by
        rw [← Rat.intCast_pos, hS, Rat.mul_pos_iff_of_pos_right hs, Rat.intCast_pos]
      rw [a1, a2]
/-! the rows and columns as sets -/
def zk_mk (R : Nat → Bool) : Nat → Nat
  | 0 => 0
  | k + 1 => if R k then zk_mk R k ||| 2 ^ k else zk_mk R k
theorem zk_mk_bit (R : Nat → Bool) : ∀ k i, (zk_mk R k).testBit i = (decide (i < k) && R i)
  | 0, i => by simp [zk_mk]
  | k + 1, i => by
    have ih := zk_mk_bit R k i
    simp only [zk_mk]
    by_cases hb : R k = true
    · rw [if_pos hb, fb_bit_set, ih]
      by_cases e : i = k
      · subst e
        simp [hb]
      · have e2 : decide (i < k + 1) = decide (i < k) := by
          by_cases h : i < k
          · simp [h]; omega
          · simp [h]; omega
        rw [e2]
        simp [e]
    · rw [if_neg hb, ih]
      by_cases e : i = k
      · subst e
        simp [hb]
      · have e2 : decide (i < k + 1) = decide (i < k) := by
          by_cases h : i < k
          · simp [h]; omega
          · simp [h]; omega
        rw [e2]
theorem zk_mk_lt (R : Nat → Bool) : ∀ k, zk_mk R k < 2 ^ k
  | 0 => by simp [zk_mk]
  | k + 1 => by
    have ih := zk_mk_lt R k
    have h2 : 2 ^ k < 2 ^ (k + 1) := Nat.pow_lt_pow_right (by omega) (by omega)
    simp only [zk_mk]
    by_cases hb : R k = true
    · rw [if_pos hb]
      exact Nat.or_lt_two_pow (by omega) h2
    · rw [if_neg hb]
      omega
theorem zk_mk_bc {R : Nat → Bool} {m : Nat} (hm : m ≤ 5) : (∀ i, i ≤ m → zs_bc (zk_mk R m) i = fb_ct R i) ∧ zs_bc (zk_mk R m) 5 = fb_ct R m := by
  have h1 : ∀ i, i ≤ m → zs_bc (zk_mk R m) i = fb_ct R i := by
    intro i hi
    refine fb_ct_cong (fun j hj => ?_)
    rw [zk_mk_bit]
    simp
    intro h
    omega
  refine ⟨h1, ?_⟩
  have h2 := fb_ct_split (fun i => (zk_mk R m).testBit i) m (5 - m)
  rw [show m + (5 - m) = 5 by omega] at h2
  have h3 : fb_ct (fun k => (zk_mk R m).testBit (m + k)) (5 - m) = 0 := by
    refine fb_ct_zero.mpr (fun k hk => ?_)
    rw [zk_mk_bit]
    simp
    intro h
    omega
  have h4 := h1 m (Nat.le_refl _)
  unfold zs_bc at h4 ⊢
  omega
theorem zk_mk_mb {R : Nat → Bool} {m : Nat} (hm : m ≤ 5) {i : Nat} (hi : i < m) (hb : R i = true) : zs_mb (zk_mk R m) (fb_ct R i) = i := by
  have h32 : zk_mk R m < 32 := by
    have h1 := zk_mk_lt R m
    have h2 : 2 ^ m ≤ 2 ^ 5 := Nat.pow_le_pow_right (by omega) hm
    omega
  have := zs_mb_ok (zk_mk R m) h32 i (by omega) (by rw [zk_mk_bit]; simp [hi, hb])
  rw [(zk_mk_bc hm).1 i (by omega)] at this
  exact this
theorem zk_mk_in {R : Nat → Bool} {m : Nat} (hm : m ≤ 5) {t : Nat} (ht : t < fb_ct R m) : zs_mb (zk_mk R m) t < m ∧ R (zs_mb (zk_mk R m) t) = true ∧ fb_ct R (zs_mb (zk_mk R m) t) = t := by
  have h32 : zk_mk R m < 32 := by
    have h1 := zk_mk_lt R m
    have h2 : 2 ^ m ≤ 2 ^ 5 := Nat.pow_le_pow_right (by omega) hm
    omega
  have hle : fb_ct R m ≤ m := fb_ct_le _ _
  obtain ⟨h1, h2, h3⟩ := zs_mb_lt (zk_mk R m) h32 t (by omega) (by rw [(zk_mk_bc hm).2]; exact ht)
  rw [zk_mk_bit] at h2
  simp at h2
  refine ⟨h2.1, h2.2, ?_⟩
  rw [← (zk_mk_bc hm).1 _ (by omega)]
  exact h3
theorem zk_s_nz {f : Nat → Rat} {n : Nat} (h0 : ∀ k, k < n → 0 ≤ f k) (h : zk_s f n ≠ 0) : 0 < zk_s f n := Rat.lt_of_le_of_ne (zk_s_ge h0) (Ne.symm h)
theorem zs_gd_ex {V : zs_V} (hV : zs_ok V) (hn : zs_ne V) : ∃ p q, p < 2 ^ zs_lc V true ∧ q < 2 ^ zs_lc V false ∧ zs_bc p 5 = zs_bc q 5 ∧ 1 ≤ zs_bc p 5 ∧ zs_gd V p q := by
  have l1 := (hV.lc true).2
  have l2 := (hV.lc false).2
  generalize hmm : zs_lc V true = m at *
  generalize hnn : zs_lc V false = n at *
  have hm : 0 < m := by rw [← hmm]; exact hn.1
  have hn' : 0 < n := by rw [← hnn]; exact hn.2
  have hab : ∀ i j, -990 ≤ zs_ka V i j ∧ zs_ka V i j ≤ 990 := fun i j => zs_po_b hV _ _
  obtain ⟨R, C, x, y, hct, hx0, hxR, hy0, hyC, hxa, hxe, hay, hae, hind⟩ := zk_game (fun i j => ((zs_ka V i j + 1000 : Int) : Rat)) m n hm (fun i _ j _ => Rat.intCast_pos.mpr (by have := hab i j; omega))
  have bp := zk_mk_bc (R := R) l1
  have bq := zk_mk_bc (R := C) l2
  have hk5 : fb_ct R m ≤ 5 := Nat.le_trans (fb_ct_le _ _) l1
  have hk1 : 1 ≤ fb_ct R m := by
    refine Classical.byContradiction fun h0 => ?_
    have hz : fb_ct R m = 0 := by omega
    have hR : ∀ i, i < m → R i = false := fb_ct_zero.mp hz
    have h1 := hxa 0 hn'
    rw [zk_s_zero (fun i hi => by rw [hxR i hi (hR i hi)]; grind)] at h1
    exact absurd h1 (by decide)
  refine ⟨zk_mk R m, zk_mk C n, zk_mk_lt R m, zk_mk_lt C n, by rw [bp.2, bq.2, hct], by rw [bp.2]; exact hk1, ?_⟩
  have hb5 := bp.2
  generalize hk : fb_ct R m = k at *
  have hkC : fb_ct C n = k := hct.symm
  -- the sums over the members
  have en1 : ∀ f : Nat → Rat, (∀ i, i < m → R i = false → f i = 0) → zk_s f m = zk_s (fun t => f (zs_mb (zk_mk R m) t)) k := by
    intro f hf
    rw [← hk]
    exact zk_s_en m (fun i hi hb => zk_mk_mb l1 hi hb) hf
  have en2 : ∀ f : Nat → Rat, (∀ i, i < n → C i = false → f i = 0) → zk_s f n = zk_s (fun t => f (zs_mb (zk_mk C n) t)) k := by
    intro f hf
    rw [← hkC]
    exact zk_s_en n (fun i hi hb => zk_mk_mb l2 hi hb) hf
  have in1 : ∀ t, t < k → zs_mb (zk_mk R m) t < m ∧ R (zs_mb (zk_mk R m) t) = true ∧ fb_ct R (zs_mb (zk_mk R m) t) = t := fun t ht => zk_mk_in l1 (by rw [hk]; exact ht)
  have in2 : ∀ t, t < k → zs_mb (zk_mk C n) t < n ∧ C (zs_mb (zk_mk C n) t) = true ∧ fb_ct C (zs_mb (zk_mk C n) t) = t := fun t ht => zk_mk_in l2 (by rw [hkC]; exact ht)
  have mb2 : ∀ j, j < n → C j = true → zs_mb (zk_mk C n) (fb_ct C j) = j ∧ fb_ct C j < k := by
    intro j hj hb
    refine ⟨zk_mk_mb l2 hj hb, ?_⟩
    have h1 := fb_ct_mono C (show j + 1 ≤ n by omega)
    rw [fb_ct_succ, if_pos hb, hkC] at h1
    omega
  unfold zs_gd zs_ks zs_kx
  rw [hb5, hmm, hnn]
  generalize zs_mb (zk_mk R m) = r at *
  generalize zs_mb (zk_mk C n) = c at *
  generalize zs_ka V = a at *
  have hB1 : ∀ o, zs_X k (zs_B true a r c) o = zs_X k (fun t s => a (r t) (c s) + 1000) o := fun o => (zs_X_sh (fun t s => a (r t) (c s)) 1000 o).symm
  have hB2 : ∀ o, zs_X k (zs_B false a r c) o = zs_X k (fun t s => a (r s) (c t) + 1000) o := fun o => (zs_X_sh (fun t s => a (r s) (c t)) 1000 o).symm
  have hD : zk_dt k (fun t s => a (r t) (c s) + 1000) ≠ 0 := by
    intro h0
    obtain ⟨z, ⟨i0, hi0, hz0⟩, hz⟩ := zk_dep0 hk5 h0
    have h1 := hind (fun i => if R i then ((z (fb_ct R i) : Int) : Rat) else 0) (fun i _ hr => by simp only [hr]; rfl) (fun j hj hc => ?_) (r i0) (in1 i0 hi0).1
    · have h2 : (if R (r i0) then ((z (fb_ct R (r i0)) : Int) : Rat) else 0) = 0 := h1
      rw [if_pos (in1 i0 hi0).2.1, (in1 i0 hi0).2.2] at h2
      exact hz0 (by exact_mod_cast h2)
    · obtain ⟨e1, e2⟩ := mb2 j hj hc
      rw [en1 _ (fun i _ hr => by simp only [hr]; exact Rat.zero_mul _)]
      have h3 := hz (fb_ct C j) e2
      have h4 : ((fb_si (fun i => z i * (a (r i) (c (fb_ct C j)) + 1000)) k : Int) : Rat) = 0 := by rw [h3]; rfl
      rw [zk_cast_si] at h4
      rw [← h4]
      refine zk_s_cong (fun t ht => ?_)
      rw [if_pos (in1 t ht).2.1, (in1 t ht).2.2, e1, ← Rat.intCast_mul]
  have hw1 : ∀ j, j < k → zk_s (fun t => x (r t) * ((a (r t) (c j) + 1000 : Int) : Rat)) k = 1 := by
    intro j hj
    have h1 := hxe (c j) (in2 j hj).1 (in2 j hj).2.1
    rw [en1 _ (fun i hi hr => by rw [hxR i hi hr]; exact Rat.zero_mul _)] at h1
    exact h1
  have hw2 : ∀ j, j < k → zk_s (fun t => y (c t) * ((a (r j) (c t) + 1000 : Int) : Rat)) k = 1 := by
    intro j hj
    have h1 := hae (r j) (in1 j hj).1 (in1 j hj).2.1
    rw [en2 _ (fun i hi hr => by rw [hyC i hi hr]; exact Rat.mul_zero _)] at h1
    rw [← h1]
    exact zk_s_cong (fun t _ => Rat.mul_comm _ _)
  have K1 : ∀ o, o < k → ((zs_X k (zs_B true a r c) o : Int) : Rat) = ((zk_dt k (fun t s => a (r t) (c s) + 1000) : Int) : Rat) * x (r o) := by
    intro o ho
    rw [hB1]
    exact zk_KX hk1 hk5 _ (fun t => x (r t)) hw1 ho
  have K2 : ∀ o, o < k → ((zs_X k (zs_B false a r c) o : Int) : Rat) = ((zk_dt k (fun t s => a (r t) (c s) + 1000) : Int) : Rat) * y (c o) := by
    intro o ho
    rw [hB2, ← zk_TRall hk5 (fun t s => a (r t) (c s) + 1000)]
    exact zk_KX hk1 hk5 _ (fun t => y (c t)) hw2 ho
  generalize hDD : zk_dt k (fun t s => a (r t) (c s) + 1000) = D at *
  have px : ∀ t, t < k → 0 ≤ x (r t) := fun t ht => hx0 _ (in1 t ht).1
  have py : ∀ t, t < k → 0 ≤ y (c t) := fun t ht => hy0 _ (in2 t ht).1
  have sx : 0 < zk_s (fun t => x (r t)) k := by
    refine Classical.byContradiction fun hno => ?_
    have hz : ∀ t, t < k → x (r t) = 0 := by
      intro t ht
      refine Classical.byContradiction fun hne => hno (zk_s_pos px ht (Rat.lt_of_le_of_ne (px t ht) (Ne.symm hne)))
    have h1 := hw1 0 hk1
    rw [zk_s_zero (fun t ht => by rw [hz t ht]; exact Rat.zero_mul _)] at h1
    exact absurd h1 (by decide)
  have sy : 0 < zk_s (fun t => y (c t)) k := by
    refine Classical.byContradiction fun hno => ?_
    have hz : ∀ t, t < k → y (c t) = 0 := by
      intro t ht
      refine Classical.byContradiction fun hne => hno (zk_s_pos py ht (Rat.lt_of_le_of_ne (py t ht) (Ne.symm hne)))
    have h1 := hw2 0 hk1
    rw [zk_s_zero (fun t ht => by rw [hz t ht]; exact Rat.zero_mul _)] at h1
    exact absurd h1 (by decide)
  have S1 : ((fb_si (fun o => zs_X k (zs_B true a r c) o) k : Int) : Rat) = (D : Rat) * zk_s (fun t => x (r t)) k := by
    rw [zk_cast_si, ← zk_s_mul]
    exact zk_s_cong K1
  have S2 : ((fb_si (fun o => zs_X k (zs_B false a r c) o) k : Int) : Rat) = (D : Rat) * zk_s (fun t => y (c t)) k := by
    rw [zk_cast_si, ← zk_s_mul]
    exact zk_s_cong K2
  refine ⟨(zs_sc_of hD S1 (K1 0 hk1) sx (px 0 hk1)).1, (zs_sc_of hD S2 (K2 0 hk1) sy (py 0 hk1)).1, fun o ho => (zs_sc_of hD S1 (K1 o ho) sx (px o ho)).2, fun o ho => (zs_sc_of hD S2 (K2 o ho) sy (py o ho)).2, fun l hl => ?_, fun l hl => ?_⟩
  · have hA : ((zs_ab true a r c k (fun o => zs_X k (zs_B true a r c) o) l : Int) : Rat) = (D : Rat) * (zk_s (fun t => x (r t) * ((a (r t) l + 1000 : Int) : Rat)) k - 1) := by
      unfold zs_ab
      rw [zk_cast_si, ← hw1 0 hk1]
      have e : zk_s (fun t => x (r t) * ((a (r t) l + 1000 : Int) : Rat)) k - zk_s (fun t => x (r t) * ((a (r t) (c 0) + 1000 : Int) : Rat)) k = zk_s (fun t => x (r t) * ((a (r t) l + 1000 : Int) : Rat) + (-1) * (x (r t) * ((a (r t) (c 0) + 1000 : Int) : Rat))) k := by
        rw [zk_s_add, zk_s_mul]
        grind
      rw [e, ← zk_s_mul]
      refine zk_s_cong (fun t ht => ?_)
      simp only [if_true]
      rw [Rat.intCast_mul, K1 t ht, Rat.intCast_sub, Rat.intCast_add, Rat.intCast_add]
      grind
    refine (zs_sc_of hD S1 hA sx ?_).2
    have h1 := hxa l hl
    rw [en1 _ (fun i hi hr => by rw [hxR i hi hr]; exact Rat.zero_mul _)] at h1
    grind
  · have hA : ((zs_ab false a r c k (fun o => zs_X k (zs_B false a r c) o) l : Int) : Rat) = (D : Rat) * (1 - zk_s (fun t => y (c t) * ((a l (c t) + 1000 : Int) : Rat)) k) := by
      unfold zs_ab
      rw [zk_cast_si, ← hw2 0 hk1]
      have e : zk_s (fun t => y (c t) * ((a (r 0) (c t) + 1000 : Int) : Rat)) k - zk_s (fun t => y (c t) * ((a l (c t) + 1000 : Int) : Rat)) k = zk_s (fun t => y (c t) * ((a (r 0) (c t) + 1000 : Int) : Rat) + (-1) * (y (c t) * ((a l (c t) + 1000 : Int) : Rat))) k := by
        rw [zk_s_add, zk_s_mul]
        grind
      rw [e, ← zk_s_mul]
      refine zk_s_cong (fun t ht => ?_)
      simp only [Bool.false_eq_true, if_false]
      rw [Rat.intCast_mul, K2 t ht, Rat.intCast_sub, Rat.intCast_add, Rat.intCast_add]
      grind
    refine (zs_sc_of hD S2 hA sy ?_).2
    have h1 := hay l hl
    rw [en2 _ (fun i hi hr => by rw [hyC i hi hr]; exact Rat.mul_zero _)] at h1
    have h2 : zk_s (fun t => y (c t) * ((a l (c t) + 1000 : Int) : Rat)) k = zk_s (fun t => ((a l (c t) + 1000 : Int) : Rat) * y (c t)) k := zk_s_cong (fun t _ => Rat.mul_comm _ _)
    rw [h2]
    grind
/-! the first one is found -/
theorem zs_kst_mono (V : zs_V) (k p q : Nat) (s : zs_K) : s.2.2 ≤ (zs_kst V k p q s).2.2 := by
  unfold zs_kst
  by_cases h : zs_bc p 5 = k ∧ zs_bc q 5 = k ∧ zs_gdb V p q = true
  · rw [if_pos h]; show s.2.2 ≤ s.2.2 + 1; omega
  · rw [if_neg h]; exact Nat.le_refl _
theorem zs_kq_mono (V : zs_V) (k p : Nat) : ∀ q s, s.2.2 ≤ (zs_kq V k p q s).2.2
  | 0, s => Nat.le_refl _
  | q + 1, s => by
    have ih := zs_kq_mono V k p q s
    simp only [zs_kq]
    by_cases h : q = 0
    · rw [if_pos h]; exact Nat.le_refl _
    · rw [if_neg h]
      exact Nat.le_trans ih (zs_kst_mono V k p q _)
theorem zs_kq_hit (V : zs_V) (k p : Nat) {q0 : Nat} (h0 : q0 ≠ 0) (hb : zs_bc p 5 = k ∧ zs_bc q0 5 = k ∧ zs_gdb V p q0 = true) : ∀ q s, q0 < q → 0 < (zs_kq V k p q s).2.2
  | 0, s, h => absurd h (by omega)
  | q + 1, s, h => by
    simp only [zs_kq]
    rw [if_neg (by omega)]
    by_cases e : q0 = q
    · subst e
      unfold zs_kst
      rw [if_pos hb]
      exact Nat.succ_pos _
    · exact Nat.lt_of_lt_of_le (zs_kq_hit V k p h0 hb q s (by omega)) (zs_kst_mono V k p q _)
theorem zs_kp_mono (V : zs_V) (k : Nat) : ∀ p s, s.2.2 ≤ (zs_kp V k p s).2.2
  | 0, s => Nat.le_refl _
  | p + 1, s => by
    have ih := zs_kp_mono V k p s
    simp only [zs_kp]
    by_cases h : p = 0
    · rw [if_pos h]; exact Nat.le_refl _
    · rw [if_neg h]
      exact Nat.le_trans ih (zs_kq_mono V k p _ _)
theorem zs_kp_hit (V : zs_V) (k : Nat) {p0 q0 : Nat} (h1 : p0 ≠ 0) (h0 : q0 ≠ 0) (hq : q0 < 2 ^ zs_lc V false) (hb : zs_bc p0 5 = k ∧ zs_bc q0 5 = k ∧ zs_gdb V p0 q0 = true) : ∀ p s, p0 < p → 0 < (zs_kp V k p s).2.2
  | 0, s, h => absurd h (by omega)
  | p + 1, s, h => by
    simp only [zs_kp]
    rw [if_neg (by omega)]
    by_cases e : p0 = p
    · subst e
      exact zs_kq_hit V k p0 h0 hb _ _ hq
    · exact Nat.lt_of_lt_of_le (zs_kp_hit V k h1 h0 hq hb p s (by omega)) (zs_kq_mono V k p _ _)
theorem zs_kk_hit (V : zs_V) {k0 p0 q0 : Nat} (hk : 1 ≤ k0) (hp : p0 < 2 ^ zs_lc V true) (hq : q0 < 2 ^ zs_lc V false) (h1 : p0 ≠ 0) (h0 : q0 ≠ 0) (hb : zs_bc p0 5 = k0 ∧ zs_bc q0 5 = k0 ∧ zs_gdb V p0 q0 = true) : ∀ k, k0 < k → 0 < (zs_kk V k).2.2
  | 0, h => absurd h (by omega)
  | k + 1, h => by
    simp only [zs_kk]
    rw [if_neg (by omega)]
    by_cases e : k0 = k
    · subst e
      exact zs_kp_hit V k0 h1 h0 hq hb _ _ hp
    · exact Nat.lt_of_lt_of_le (zs_kk_hit V hk hp hq h1 h0 hb k (by omega)) (zs_kp_mono V k _ _)
/-- THERE IS ALWAYS A GOOD KERNEL -/
theorem zs_kern {V : zs_V} (hV : zs_ok V) (hn : zs_ne V) : (zs_kf6 V).2.2 ≠ 0 := by
  obtain ⟨p, q, hp, hq, hpq, hk, hg⟩ := zs_gd_ex hV hn
  have hz : zs_bc 0 5 = 0 := by decide
  have h5 : zs_bc p 5 ≤ 5 := fb_ct_le _ _
  have := zs_kk_hit V hk hp hq (fun e => by rw [e, hz] at hk; omega) (fun e => by rw [hpq, e, hz] at hk; omega) ⟨rfl, hpq.symm, zs_gdb_iff.mpr hg⟩ 6 (by omega)
  unfold zs_kf6
  omega
