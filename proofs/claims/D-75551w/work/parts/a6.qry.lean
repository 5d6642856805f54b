/-! THE REFERENCE: queries: values -/
def zq_nl : List String := ["set", "items", "weight", "room", "value", "gain", "harm", "result", "answered"]
def zq_fn (b : Nat → Nat) (S : zp_P) : Nat → Nat → Nat
  | 0, i => i
  | q + 1, i => if zp_isw b S (zw zq_nl[i]!) = true then i else zq_fn b S q (i + 1)
def zq_nm (b : Nat → Nat) (S : zp_P) : Nat := zq_fn b S 9 0
def zq_v1 (b : Nat → Nat) (S : zp_P) (d : Nat) (l : List Int32) : zq_X := zq_emit (zp_chk S (zq_nm b S < 9) 1, d, l) (-1 - nI (zq_nm b S))
def zq_val (b : Nat → Nat) (L : Nat) (S : zp_P) (d : Nat) (l : List Int32) : zq_X := if ¬ S.2.1 = 0 ∨ S.1.1 = 2 then zq_emit (zp_nS b L S 0 9999, d, l) (nI (zp_nv b L S 0 9999)) else (zp_adv b L (zq_v1 b S d l).1, (zq_v1 b S d l).2)
theorem zp_nS_e {b : Nat → Nat} {L : Nat} {S : zp_P} {lo hi : Nat} (h : (zp_nS b L S lo hi).2.1 = 0) : S.2.1 = 0 := by
  unfold zp_nS at h
  rw [zp_adv_e] at h
  exact (zp_chk_e (by omega) (zp_chk_e (by omega) h).2.1).2.1
section ZQ2
variable {G : zPg} {n : Nat} {σ : zS} {m : Nat} {N : Nat → Option Nat} {M M' M'' M0 : zt_M} {Q : zQ} {Y : zY} {b : Nat → Nat} {L : Nat} {S : zp_P} {X : zq_X} {l : List Int32} {d : Nat}
def zt_nm (σ : zS) (m : Nat) (N : Nat → Option Nat) : Prop := ∀ i, i < 9 → ∃ a, N i = some a ∧ ∀ M, zj_str (zt_S σ m N M) a (zw zq_nl[i]!)
theorem zt_qx.prS {S' : zp_P} (hs : zt_qx b L (S, d, l) M) (h : zt_pr M M') (h' : zt_ps b L S' M') : zt_qx b L (S', d, l) M' := by
  obtain ⟨_, h2, h3⟩ := hs
  have h2 : M.1 36 = nI d := h2
  have h3 : zt_cd l M := h3
  exact zt_qx.mk h' ((h.1 36 (by omega)).trans h2) (h3.pr h)
theorem zt_291x (hm : G.1 ≤ m) (hs : zt_qx b L (S, d, l) M) (hl : S.2.1 = 0 → l.length < 200) {k : Nat} (hk : zq_nm b S = k) (hk9 : k ≤ 9) {K : zS → Prop} (h : ∀ M', zt_qw M M' → zt_qx b L (zp_adv b L (zq_v1 b S d l).1, (zq_v1 b S d l).2) M' → K (zt_S σ m N M')) : zgR (zt_S σ m N M) (some m) 4 37 (fun v48 => zln (zt_S σ m N M) 8 v48 (fun v58 => zJ (fun (p60 : Int32) (s61 : zS) => zrc s61 (some m) 4 (fun a66 => zcl (zCall G (n + 5)) 273 [.ref a66, .int p60, .int (1)] Y s61 (zqV (fun s64 => zrc s64 (some m) 4 (fun a73 => zcl (zCall G (n + 5)) 290 [.ref a73, .int ((-1) - nI k)] Y s64 (zqV (fun s71 => zrc s71 (some m) 4 (fun a80 => zcl (zCall G (n + 5)) 275 [.ref a80] Y s71 (zqV (fun s78 => K s78)))))))))) (fun (j62 : Int32 → zS → Prop) => ((v58 ≤ nI k) → j62 (0) (zt_S σ m N M)) ∧ ((¬ v58 ≤ nI k) → j62 (1) (zt_S σ m N M))))) := by
  have h1 : zt_ps b L S M := hs.1
  simp only [↓zt_g37, ↓zt_l19]
  refine zJ_go (fun (j : Int32 → zS → Prop) => j (zs_b (zq_nm b S < 9)) (zt_S σ m N M)) ?_ ?_
  · simp only [↓zt_rc]
    refine zt_273 hm h1 (c := 1) (by omega) fun M1 k1 k2 => zqV_r.mpr ?_
    have k3 := hs.prS k1 k2
    simp only [↓zt_rc]
    rw [← hk]
    refine zt_290 hm k3 (fun he => hl (zp_chk_e (by omega) he).2.1) fun M2 k4 k5 => zqV_r.mpr ?_
    have k5 : zt_qx b L (zq_v1 b S d l) M2 := k5
    generalize zq_v1 b S d l = W at *
    obtain ⟨S', d', l'⟩ := W
    simp only [↓zt_rc]
    exact zt_275 hm k5.1 fun M3 k6 k7 => zqV_r.mpr (h M3 (((zt_qw.pr k1).trans k4).trans (zt_qw.pr k6)) (k5.prS k6 k7))
  · intro j hj
    rw [hk] at hj
    have c9 : nI 9 ≤ nI k ↔ 9 ≤ k := nI_leI (by omega) (by omega)
    simp only [c9]
    refine ⟨fun h9 => ?_, fun h9 => ?_⟩
    · rw [zs_bf (by omega)] at hj
      exact hj
    · rw [zs_bt (by omega)] at hj
      exact hj
theorem zt_291 (hm : G.1 ≤ m) (hn : zt_nm σ m N) (hs : zt_qx b L (S, d, l) M) (hl : S.2.1 = 0 → l.length < 200) (h : ∀ M', zt_qw M M' → zt_qx b L (zq_val b L S d l) M' → Q none (zt_S σ m N M')) : zCall G (n + 6) 291 [.ref m] Q Y (zt_S σ m N M) := by
  have h1 : zt_ps b L S M := hs.1
  have t2 : M.1 32 = 2 ↔ S.1.1 = 2 := h1.t 2 (by omega)
  refine ze291 ⟨_, rfl, ?_⟩
  simp only [↓zt_g33, h1.e0]
  refine zJ_go (fun (j : zS → Prop) => (¬ S.2.1 = 0 ∨ S.1.1 = 2) → j (zt_S σ m N M)) ?_ ?_
  · intro hc
    simp only [↓zt_rc]
    refine zt_276 hm h1 (lo := 0) (hi := 9999) (by omega) (by omega) fun M1 k1 k2 => zqI_r.mpr ?_
    simp only [↓zt_rc]
    refine zt_290 hm (hs.prS k1 k2) (fun he => hl (zp_nS_e he)) fun M2 k3 k4 => zqV_r.mpr (h M2 ((zt_qw.pr k1).trans k3) ?_)
    have e : zq_val b L S d l = zq_emit (zp_nS b L S 0 9999, d, l) (nI (zp_nv b L S 0 9999)) := if_pos hc
    rw [e]
    exact k4
  · intro j hj
    refine ⟨fun hn0 => hj (Or.inl hn0), fun hy => ?_⟩
    simp only [↓zt_g32, t2]
    refine ⟨fun hn2 => ?_, fun h2 => hj (Or.inr h2)⟩
    have e : zq_val b L S d l = (zp_adv b L (zq_v1 b S d l).1, (zq_v1 b S d l).2) := if_neg (fun h9 => h9.elim (fun h8 => h8 hy) hn2)
    rw [e] at h
    refine zf2 0 9 (fun k s' => s' = zt_S σ m N M ∧ zq_fn b S (9 - k) k = zq_nm b S) (by omega) ?_ ?_ ⟨rfl, rfl⟩
    · rintro rec k s' _ hk ⟨rfl, hf⟩ hrec
      have ef : zq_fn b S (9 - k) k = if zp_isw b S (zw zq_nl[k]!) = true then k else zq_fn b S (8 - k) (k + 1) := by
        rw [show 9 - k = (8 - k) + 1 by omega]
        rfl
      rw [ef] at hf
      simp only [↓zt_g37, ↓zt_l19]
      refine zJ_go (fun (j : zS → Prop) => zq_nm b S = k → j (zt_S σ m N M)) ?_ ?_
      · intro hq
        have := zt_291x (n := n) (Y := Y) (N := N) (σ := σ) hm hs hl hq (by omega) h
        exact this
      · intro j' hj'
        refine ⟨fun h9 => absurd h9 (nI_ge hk (by omega)), fun _ => ?_⟩
        obtain ⟨a, ha, hz⟩ := hn k hk
        simp only [↓zt_g37, ↓zt_a19, nI_cl (show k < 2147483648 by omega), ha, ↓zt_rc]
        refine ⟨nI_i hk (by omega), zt_272 h1 (hz M) (zqI_r.mpr ?_)⟩
        simp only [zs_b0, Classical.not_not]
        refine ⟨fun hw => hj' ?_, fun hnw v hv => ?_⟩
        · rw [if_pos hw] at hf
          exact hf.symm
        · rw [if_neg hnw] at hf
          subst hv
          refine hrec _ ⟨rfl, ?_⟩
          rw [show 9 - (k + 1) = 8 - k by omega]
          exact hf
    · rintro rec s' ⟨rfl, hf⟩
      have hq : zq_nm b S = 9 := hf.symm
      simp only [↓zt_g37, ↓zt_l19]
      refine zJ_go (fun (j : zS → Prop) => j (zt_S σ m N M)) ?_ ?_
      · have := zt_291x (n := n) (Y := Y) (N := N) (σ := σ) hm hs hl hq (by omega) h
        exact this
      · intro j' hj'
        exact ⟨fun _ => hj', fun h9 => absurd (nI_le (Nat.le_refl 9) (by omega)) h9⟩
end ZQ2
