/-! THE COMPONENT's Outlook: looking through the game -/
section ZD0
variable {L : Nat × Nat × Nat} {G : zPg} {n : Nat} {σ σ' σ'' : zS} {τ τ' τ'' : Nat → Nat} {Q : zQ} {Y : zY} {s t a e q C K o u k pa : Nat} {V : zs_V} {W W' W'' : zc_W}
theorem zc_295i {x y : Int} (h1 : -2147483648 ≤ x) (h2 : x < 2147483648) (h3 : -2147483648 ≤ y) (h4 : y < 2147483648) (h : Q (some (.int (iI (if y < x then y else x)))) σ) : zCall G (n + 1) 295 [.int (iI x), .int (iI y)] Q Y σ := by
  refine ze295 ⟨_, _, rfl, ?_⟩
  simp only [zJ, iI_lt h3 h4 h1 h2]
  by_cases g : y < x
  · rw [if_pos g] at h
    exact ⟨fun _ => h, fun h9 => absurd g h9⟩
  · rw [if_neg g] at h
    exact ⟨fun h9 => absurd h9 g, fun _ => h⟩
theorem zc_297i {x y : Int} (h1 : -2147483648 ≤ x) (h2 : x < 2147483648) (h3 : -2147483648 ≤ y) (h4 : y < 2147483648) (h : Q (some (.int (iI (if x < y then y else x)))) σ) : zCall G (n + 1) 297 [.int (iI x), .int (iI y)] Q Y σ := by
  refine ze297 ⟨_, _, rfl, ?_⟩
  simp only [zJ, iI_lt h1 h2 h3 h4]
  by_cases g : x < y
  · rw [if_pos g] at h
    exact ⟨fun _ => h, fun h9 => absurd g h9⟩
  · rw [if_neg g] at h
    exact ⟨fun h9 => absurd h9 g, fun _ => h⟩
/-- 'from', for positions of a measure below m -/
def zc_Fr (L : Nat × Nat × Nat) (G : zPg) (s : Nat) (V : zs_V) (C K q o m : Nat) : Prop := ∀ (σ : zS) (τ : Nat → Nat) (W : zc_W) (u t pa n : Nat) (Q : zQ) (Y : zY), zc_P L G s V C K σ τ W q → W.2.2.1 = some o → u < zs_all V → t ≤ 1 → pa ≤ 2 → (pa = 2 ∨ 2 * zs_un V u + (1 - pa) < m) → 8 + 3 * m ≤ n → (∀ σ' τ' W', zc_go s σ τ W σ' τ' W' → zc_P L G s V C K σ' τ' W' q → Q (some (.int (iI (zs_fr V u t pa)))) σ') → zCall G n 505 [.ref o, .int (nI u), .int (nI t), .int (nI pa)] Q Y σ
theorem zc_511 {m : Nat} (hm : zc_Fr L G s V C K q o m) (hV : zs_ok V) (hP : zc_P L G s V C K σ τ W q) (hO : W.2.2.1 = some o) (hu : u < zs_all V) (ht : t ≤ 1) (hk : k < zs_n V) (hb : u.testBit k = false) (hmm : 2 * zs_un V u < m + 1) (hn : 8 + 3 * m ≤ n) (h : ∀ σ' τ' W', zc_go s σ τ W σ' τ' W' → zc_P L G s V C K σ' τ' W' q → Q (some (.int (iI (zs_gn V t k + zs_O V (u ||| 2 ^ k) (1 - t) 0)))) σ') : zCall G (n + 1) 511 [.ref o, .int (nI u), .int (nI t), .int (nI k)] Q Y σ := by
  have hA := hV.all
  have hn10 := hV.n0.2
  obtain ⟨n, rfl⟩ : ∃ n', n = n' + 4 := ⟨n - 4, by omega⟩
  obtain ⟨ga, ka, fg, fk, o1, o2, o3⟩ := hP.ol hO
  refine ze511 ⟨_, _, _, _, rfl, ?_⟩
  have et : nI t = (0 : Int32) ↔ t = 0 := nI_eq (b := 0) (by omega) (by omega)
  rw [et]
  refine zJ_go (fun (j : Int32 → zS → Prop) => j (iI (zs_gn V t k)) σ) ?_ ?_
  · have e1 : nI u ||| ((1 : Int32) <<< (nI k &&& 31)) = nI (u ||| 2 ^ k) := by rw [zn_shl k (by omega), nx_or]
    rw [e1, zx_t ht]
    have hun := zs_un_or (V := V) (s := u) hk hb
    refine zo_rc o1 (hm σ τ W (u ||| 2 ^ k) (1 - t) 0 _ _ _ hP hO (zs_or_lt hu hk) (by omega) (by omega) (Or.inr (by omega)) hn fun s1 τ1 W1 a1 a2 => zqI_r.mpr ?_)
    rw [iI_add]
    exact h s1 τ1 W1 a1 a2
  · intro j hj
    refine ⟨fun h0 => ?_, fun h0 => ?_⟩
    · refine zo_gR o1 rfl (hP.rc (zc_94 (f := 3) hP hV hk (by omega) (zqI_r.mpr ?_)))
      rw [zs_p_i V k 3, iI_neg]
      unfold zs_gn at hj
      rw [if_neg h0] at hj
      exact hj
    · refine zo_gR o1 rfl (hP.rc (zc_94 (f := 1) hP hV hk (by omega) (zqI_r.mpr ?_)))
      rw [zs_p_i V k 1]
      unfold zs_gn at hj
      rw [if_pos h0] at hj
      exact hj
theorem zc_508 {m : Nat} (hm : zc_Fr L G s V C K q o m) (hV : zs_ok V) (hP : zc_P L G s V C K σ τ W q) (hO : W.2.2.1 = some o) (hu : u < zs_all V) (ht : t ≤ 1) (hpa : pa ≤ 1) (hcan : zs_can V u = true) (hmm : 2 * zs_un V u + (1 - pa) < m + 1) (hn : 3 * m ≤ n) (h : ∀ σ' τ' W', zc_go s σ τ W σ' τ' W' → zc_P L G s V C K σ' τ' W' q → Q (some (.int (iI (zs_O V u t pa)))) σ') : zCall G (n + 10) 508 [.ref o, .int (nI u), .int (nI t), .int (nI pa)] Q Y σ := by
  have hA := hV.all
  have hn10 := hV.n0.2
  rw [zs_O_eq hV hpa, if_pos hcan] at h
  obtain ⟨ga, ka, fg, fk, o1, o2, o3⟩ := hP.ol hO
  refine ze508 ⟨_, _, _, _, rfl, zo_rc o1 ?_⟩
  refine ze509 ⟨_, _, _, _, rfl, zo_rc o1 ?_⟩
  rw [zx_t ht, nI_1]
  refine hm σ τ W u (1 - t) (pa + 1) _ _ _ hP hO hu (by omega) (by omega) (by omega) (by omega) fun s1 τ1 W1 a1 a2 => zqI_r.mpr (zqI_r.mpr ?_)
  have eb : zs_fr V u (1 - t) (pa + 1) = (if pa = 1 then 0 else zs_O V u (1 - t) 1) := by
    unfold zs_fr
    by_cases h1 : pa = 1
    · rw [if_pos h1, if_pos (by omega)]
    · rw [if_neg h1, if_neg (by omega), show pa + 1 = 1 by omega]
  rw [eb]
  have b0b : -990 ≤ (if pa = 1 then 0 else zs_O V u (1 - t) 1) ∧ (if pa = 1 then 0 else zs_O V u (1 - t) 1) ≤ 990 := by
    have := zs_O_b hV u (1 - t) 1
    by_cases h1 : pa = 1
    · rw [if_pos h1]; omega
    · rw [if_neg h1]; exact this
  have fb : ∀ k, k < zs_n V → -1089 ≤ zs_gn V t k + zs_O V (u ||| 2 ^ k) (1 - t) 0 ∧ zs_gn V t k + zs_O V (u ||| 2 ^ k) (1 - t) 0 ≤ 1089 := fun k hk => by
    have g1 := zs_gn_b hV (t := t) hk
    have g2 := zs_O_b hV (u ||| 2 ^ k) (1 - t) 0
    omega
  generalize (if pa = 1 then 0 else zs_O V u (1 - t) 1) = b0 at *
  have olb : ∀ k, k ≤ zs_n V → -1089 ≤ zs_olf V (fun k => zs_gn V t k + zs_O V (u ||| 2 ^ k) (1 - t) 0) u t b0 k ∧ zs_olf V (fun k => zs_gn V t k + zs_O V (u ||| 2 ^ k) (1 - t) 0) u t b0 k ≤ 1089 := fun k hk => zs_olf_b (B := 1089) (by omega) (fun i hi _ => fb i (by omega))
  have et : nI t = (0 : Int32) ↔ t = 0 := nI_eq (b := 0) (by omega) (by omega)
  refine zf3 0 (zs_n V) (fun k (x : Int32) s' => ∃ τ' W', zc_go s σ τ W s' τ' W' ∧ zc_P L G s V C K s' τ' W' q ∧ x = iI (zs_olf V (fun k => zs_gn V t k + zs_O V (u ||| 2 ^ k) (1 - t) 0) u t b0 k)) (by omega) ?_ ?_ ⟨τ1, W1, a1, a2, rfl⟩
  · rintro rec k x s' _ hk ⟨τ', W', c1, c2, rfl⟩ hrec
    obtain ⟨li, lp, la, Ei, hs, hL⟩ := c2.it
    obtain ⟨ga', ka', fg', fk', o1', o2', o3'⟩ := c2.ol (c1.keep hO)
    refine zo_gR o1' rfl (zo_gR hs rfl (zc_rc2 hL (zc_128 hL (zqI_r.mpr ⟨fun h9 => absurd h9 (nI_ge hk (by omega)), fun _ => zo_rc o1' (zc_510 hV c2 (c1.keep hO) hu ht hk fun s2 τ2 W2 d1 d2 => zqI_r.mpr ?_)⟩))))
    have ew : nI (zs_why V u t k) = (0 : Int32) ↔ zs_may V u t k = true := by
      rw [← zs_why0 ht]
      refine nI_eq (b := 0) ?_ (by omega)
      unfold zs_why
      split <;> (try split) <;> (try split) <;> omega
    rw [ew]
    have g2 := c1.trans d1
    refine zJ_go (fun (j : Int32 → zS → Prop) => ∀ s3 τ3 W3, zc_go s σ τ W s3 τ3 W3 → zc_P L G s V C K s3 τ3 W3 q → j (iI (zs_olf V (fun k => zs_gn V t k + zs_O V (u ||| 2 ^ k) (1 - t) 0) u t b0 (k + 1))) s3) ?_ ?_
    · intro s3 τ3 W3 e1 e2 v hv
      subst hv
      exact hrec _ _ ⟨τ3, W3, e1, e2, rfl⟩
    · intro j hj
      simp only [zs_olf] at hj
      have ob := olb k (by omega)
      have fbk := fb k hk
      refine ⟨fun hmay => ?_, fun hno => ?_⟩
      · simp only [if_pos hmay] at hj
        obtain ⟨ga2, ka2, fg2, fk2, o12, o22, o32⟩ := d2.ol (g2.keep hO)
        refine zo_rc o12 (zc_511 hm hV d2 (g2.keep hO) hu ht hk (zs_may_bit hmay) (by omega) (by omega) fun s3 τ3 W3 e1 e2 => zqI_r.mpr ?_)
        have g3 := g2.trans e1
        generalize zs_gn V t k + zs_O V (u ||| 2 ^ k) (1 - t) 0 = y at *
        generalize zs_olf V (fun k => zs_gn V t k + zs_O V (u ||| 2 ^ k) (1 - t) 0) u t b0 k = z at *
        have := hj s3 τ3 W3 g3 e2
        refine zJ_go (fun (j' : Int32 → zS → Prop) => j' (iI (if (if t = 0 then z < y else y < z) then y else z)) s3) this ?_
        intro j' hj'
        rw [et]
        refine ⟨fun h0 => zc_295i (by omega) (by omega) (by omega) (by omega) (zqI_r.mpr ?_), fun h0 => zc_297i (by omega) (by omega) (by omega) (by omega) (zqI_r.mpr ?_)⟩
        · simp only [if_neg h0] at hj'
          exact hj'
        · simp only [if_pos h0] at hj'
          exact hj'
      · simp only [if_neg hno] at hj
        exact hj s2 τ2 W2 g2 d2
  · rintro rec x s' ⟨τ', W', c1, c2, rfl⟩
    obtain ⟨li, lp, la, Ei, hs, hL⟩ := c2.it
    obtain ⟨ga', ka', fg', fk', o1', o2', o3'⟩ := c2.ol (c1.keep hO)
    refine zo_gR o1' rfl (zo_gR hs rfl (zc_rc2 hL (zc_128 hL (zqI_r.mpr ⟨fun _ => h s' τ' W' c1 c2, fun h9 => absurd (nI_le (Nat.le_refl _) (by omega)) h9⟩))))
theorem zc_505 (hV : zs_ok V) : ∀ m, zc_Fr L G s V C K q o m := by
  have hA := hV.all
  intro m
  induction m with
  | zero =>
    intro σ τ W u t pa n Q Y hP hO hu ht hpa hm hn h
    have h2 : pa = 2 := by omega
    obtain ⟨n, rfl⟩ : ∃ n', n = n' + 8 := ⟨n - 8, by omega⟩
    obtain ⟨ga, ka, fg, fk, o1, o2, o3⟩ := hP.ol hO
    refine ze505 ⟨_, _, _, _, rfl, zo_rc o1 (zc_506 hV hP hO hu hpa fun s1 τ1 W1 a1 a2 => zqI_r.mpr ?_)⟩
    rw [zs_b0]
    refine ⟨fun h9 => absurd (Or.inl h2) h9, fun _ => ?_⟩
    have := h s1 τ1 W1 a1 a2
    unfold zs_fr at this
    rw [if_pos h2] at this
    exact this
  | succ m ih =>
    intro σ τ W u t pa n Q Y hP hO hu ht hpa hm hn h
    obtain ⟨n, rfl⟩ : ∃ n', n = n' + 11 := ⟨n - 11, by omega⟩
    obtain ⟨ga, ka, fg, fk, o1, o2, o3⟩ := hP.ol hO
    refine ze505 ⟨_, _, _, _, rfl, zo_rc o1 (zc_506 hV hP hO hu hpa fun s1 τ1 W1 a1 a2 => zqI_r.mpr ?_)⟩
    rw [zs_b0]
    refine ⟨fun hno v hv => ?_, fun hyes => ?_⟩
    · have hpa1 : pa ≤ 1 := by
        have : pa ≠ 2 := fun e => hno (Or.inl e)
        omega
      have hcan : zs_can V u = true := by
        cases hc : zs_can V u with
        | true => rfl
        | false => exact absurd (Or.inr hc) hno
      have efr : zs_fr V u t pa = zs_O V u t pa := by
        unfold zs_fr
        rw [if_neg (by omega)]
      rw [efr] at h
      have ev : v = nI (4 * u + 2 * t + pa) := by
        rw [hv]
        exact zx_ol u t pa
      clear hv
      subst ev
      have hi : 4 * u + 2 * t + pa < 4 * zs_all V := by omega
      obtain ⟨ga1, ka1, fg1, fk1, p1, p2, p3, p4, p5, p6, p7, p8, p9, p10⟩ := a2.ol (a1.keep hO)
      refine zo_gR p1 rfl (zo_aI p6 hi (by omega) ?_)
      refine zJ_go (fun (j : zS → Prop) => ∀ s2 τ2 W2, zc_go s σ τ W s2 τ2 W2 → zc_P L G s V C K s2 τ2 W2 q → (∀ gb fb, (∃ kb, s2.1 o = some (.inr (25, [va_rf (some s), va_rf (some gb), va_rf (some kb)]))) → s2.1 gb = some (.inl (0, 4 * zs_all V, .inl fb)) → fb (4 * u + 2 * t + pa) = iI (zs_O V u t pa)) → j s2) ?_ ?_
      · intro s2 τ2 W2 b1 b2 b3
        obtain ⟨ga2, ka2, fg2, fk2, q1, q2, q3, q4⟩ := b2.ol (b1.keep hO)
        refine zo_gR q1 rfl (zo_aI q3 hi (by omega) ?_)
        rw [b3 ga2 fg2 ⟨ka2, q1⟩ q3]
        exact h s2 τ2 W2 b1 b2
      · intro j hj
        have hz : fk1 (4 * u + 2 * t + pa) = 0 ∨ fk1 (4 * u + 2 * t + pa) = 1 := p9 _ hi
        refine ⟨fun hne => hj s1 τ1 W1 a1 a2 fun gb fb hgb hfb => ?_, fun hze => ?_⟩
        · obtain ⟨kb, hgb⟩ := hgb
          rw [p1] at hgb
          have : (ga1, ka1) = (gb, kb) := congrArg (fun x : Option va_E => match x with | some (.inr (_, [_, .ref y, .ref z])) => (y, z) | _ => (0, 0)) hgb
          cases this
          rw [p3] at hfb
          cases hfb
          exact p10 u t pa hu ht hpa1 (hz.resolve_left hne)
        · refine zo_gR p1 rfl (zo_rc p1 (zc_508 ih hV a2 (a1.keep hO) hu ht hpa1 hcan (by omega) (by omega) fun s2 τ2 W2 b1 b2 => zqI_r.mpr ?_))
          have g2 := a1.trans b1
          obtain ⟨ga2, ka2, fg2, fk2, q1, q2, q3, q4, q5, q6, q7, q8, q9, q10⟩ := b2.ol (g2.keep hO)
          have e1 : s2.1 o = some (.inr (25, [va_rf (some s), va_rf (some ga1), va_rf (some ka1)])) := b1.1.at p1 (by rw [p2]; omega)
          have : (ga1, ka1) = (ga2, ka2) := by
            rw [e1] at q1
            exact congrArg (fun x : Option va_E => match x with | some (.inr (_, [_, .ref y, .ref z])) => (y, z) | _ => (0, 0)) q1
          cases this
          refine zo_sI q3 q5 hi (by omega) fun s3 w3 => ?_
          have n1 : o ≠ ga1 := fun e => by rw [e, q3] at e1; cases e1
          have n2 : ka1 ≠ ga1 := fun e => by rw [e, q3] at q6; cases q6
          have n3 : o ≠ ka1 := fun e => by rw [e, q6] at e1; cases e1
          refine zo_gR (w3.ne e1 n1) rfl (zo_sI (w3.ne q6 n2) q8 hi (by omega) fun s4 w4 => ?_)
          have hx : ∀ u' t' pa', u' < zs_all V → t' ≤ 1 → pa' ≤ 1 → 4 * u + 2 * t + pa = 4 * u' + 2 * t' + pa' → iI (zs_O V u t pa) = iI (zs_O V u' t' pa') := fun u' t' pa' _ _ _ e => by
            rw [show u = u' by omega, show t = t' by omega, show pa = pa' by omega]
          obtain ⟨P4, le4⟩ := b2.oput hV (g2.keep hO) e1 q3 q6 hx w3 w4
          refine hj s4 τ2 W2 (g2.trans ⟨le4, zc_wl.rfl'⟩) P4 fun gb fb hgb hfb => ?_
          obtain ⟨kb, hgb⟩ := hgb
          rw [w4.ne (w3.ne e1 n1) n3] at hgb
          have : (ga1, ka1) = (gb, kb) := congrArg (fun x : Option va_E => match x with | some (.inr (_, [_, .ref y, .ref z])) => (y, z) | _ => (0, 0)) hgb
          cases this
          rw [w4.ne w3.1 n2.symm] at hfb
          cases hfb
          exact va_up_self _ _ _
    · have := h s1 τ1 W1 a1 a2
      have e0 : zs_fr V u t pa = 0 := by
        unfold zs_fr
        by_cases h2 : pa = 2
        · rw [if_pos h2]
        · rw [if_neg h2]
          have hc : zs_can V u = false := (Classical.not_not.mp hyes).resolve_left h2
          rw [zs_O_eq hV (by omega), if_neg (by rw [hc]; decide)]
      rw [e0] at this
      exact this
end ZD0
