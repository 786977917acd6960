/-! ArrayList: addAll, and a copy of a list -/
/-- the copy of a list's contents -/
theorem J_toArray {G : CG} {u : Sg} {a b n : Nat} (h : LA u a b n) (hG : G.2.2.2.1 ≤ zN u) : fJ2_toArray G (some a) u = some ((some (zN u), zsC (znew u 105 n) (zN u) (va_cpy (zB u b) (fun _ => none) 0 0 n)), 1, n) := by
  obtain ⟨q1, q2, q3, q4, q5, q6, q7, q8, q9⟩ := h
  unfold fJ2_toArray
  rw [gfR_v q1 q2, Option.bind_some, gfI_v q1 q3, Option.bind_some, J_copy (k := n) q4 q8 hG (by omega) q6 (by omega) q9, bdU_e]
  simp
theorem J_ap {G : CG} {U : Sg} {a b e n k : Nat} (h : LA U a b n) (ha : G.2.2.2.1 ≤ a) (hb : G.2.2.2.1 ≤ b) (hnk : n + k ≤ zL U b) (he : zT U e = 105) (heN : e < zN U) (hk : zL U e = k) (hE : ∀ i x, i < k → zB U e i = some x → zT U x ∈ OT ∧ x < zN U) :
    ∃ u', fJ2_addAll_b56 G (some a) (some e) (k : Int) (some b) (n : Int) U = some ((1, u'), 0, 0) ∧ LA u' a b (n + k) ∧ (∀ i, i < n → zB u' b i = zB U b i) ∧ (∀ i, i < k → zB u' b (n + i) = zB U e i) ∧ gro U u' ∧ zN u' = zN U ∧ ∀ x, x ≠ a → x ≠ b → sam U u' x := by
  obtain ⟨q1, q2, q3, q4, q5, q6, q7, q8, q9⟩ := h
  have hab : a ≠ b := fun q => by rw [q, q4] at q1; cases q1
  refine ⟨zsI (zsC U b (va_cpy (zB U e) (zB U b) 0 n k)) a 202 ((n : Int) + (k : Int)), ?_, ⟨q1, q2, ?_, q4, hnk, q6, q7, q8, ?_⟩, fun i hi => ?_, fun i hi => ?_, ⟨Nat.le_refl _, fun _ _ => ⟨rfl, rfl⟩⟩, rfl, fun x h1 h2 => sam_zsI ⟨rfl, rfl, rfl, rfl, rfl, ?_⟩ h1⟩
  · unfold fJ2_addAll_b56
    have h2 : zcpy G.2.2.2.1 U (some e) 0 (some b) (n : Int) (k : Int) = some (zsC U b (va_cpy (zB U e) (zB U b) 0 n k)) := by
      unfold zcpy
      have w0 : w32 0 = 0 := rfl
      show (if _ then _ else _) = _
      rw [w0, w32_n (by omega : k < 2147483648), w32_n (by omega : n < 2147483648)]
      rw [if_pos]
      · rfl
      · refine ⟨⟨he, q4, hb⟩, ⟨by omega, by omega, by omega⟩, ⟨by omega, by omega⟩, fun i hi => ?_⟩
        have hi2 : i < k := by omega
        generalize hv : zB U e ((0 : Int).toNat + i) = v
        cases v with
        | none => rfl
        | some x =>
          have : (0 : Int).toNat + i = i := by omega
          rw [this] at hv
          exact zcast_e (hE _ _ hi2 hv).1
    rw [h2, Option.bind_some, pfI_e (by exact q1) ha]
    rfl
  · rw [zsI_I, if_pos ⟨rfl, rfl⟩]; omega
  · intro i x hx
    rw [zsI_B, zsC_B, if_pos rfl] at hx
    by_cases hi : n ≤ i ∧ i < n + k
    · rw [pk_cpy_in hi.1 hi.2] at hx
      exact hE _ _ (by omega) hx
    · rw [pk_cpy_out (by omega)] at hx
      exact q9 _ _ hx
  · rw [zsI_B, zsC_B, if_pos rfl, pk_cpy_out (by omega)]
  · rw [zsI_B, zsC_B, if_pos rfl, pk_cpy_in (by omega) (by omega)]
    congr 1; omega
  · rw [zsC_B, if_neg h2]
/-- what addAll leaves -/
def ADA (G : CG) (u u' : Sg) (a b b' d n k : Nat) : Prop := LA u' a b' (n + k) ∧ LW G u' a b' ∧ (∀ i, i < n → zB u' b' i = zB u b i) ∧ (∀ i, i < k → zB u' b' (n + i) = zB u d i) ∧ (b' = b ∨ zN u ≤ b') ∧ gro u u' ∧ zN u' ≤ zN u + 2 ∧ ∀ x, x < zN u → x ≠ a → (x ≠ b' ∨ zL u x = 0) → sam u u' x
theorem J_addAll {G : CG} {u : Sg} {a b n c d k : Nat} (h : LA u a b n) (hw : LW G u a b) (hc : LA u c d k) (hG : G.2.2.2.1 ≤ zN u) (hn : n + k ≤ 8000) (hs : ∀ x : Nat, x ≤ 20000 → shr32 (x : Int) 1 = ((x / 2 : Nat) : Int)) :
    ∃ b' u', okU (fJ2_addAll G (some a) (some c) u) 2 (2 * n + 3 * k + 10) (fun r => r.2 = u') ∧ ADA G u u' a b b' d n k := by
  obtain ⟨q1, q2, q3, q4, q5, q6, q7, q8, q9⟩ := h
  have hh : LA u a b n := ⟨q1, q2, q3, q4, q5, q6, q7, q8, q9⟩
  have haN : a ≠ zN u := by omega
  have hbN : b ≠ zN u := by omega
  have eA := J_toArray (G := G) hc hG
  generalize hU0 : zsC (znew u 105 k) (zN u) (va_cpy (zB u d) (fun _ => none) 0 0 k) = U0 at eA
  have g0 : gro u U0 := by subst hU0; exact ⟨by show zN u ≤ zN u + 1; omega, fun x hx => ⟨by show (if x = zN u then 105 else zT u x) = _; rw [if_neg (by omega)], by show (if x = zN u then k else zL u x) = _; rw [if_neg (by omega)]⟩⟩
  have gN : zN U0 = zN u + 1 := by subst hU0; rfl
  have gs : ∀ x, x ≠ zN u → sam u U0 x := fun x hx => by
    subst hU0
    refine ⟨by show (if x = zN u then 105 else zT u x) = _; rw [if_neg hx], by show (if x = zN u then k else zL u x) = _; rw [if_neg hx], ?_, ?_, ?_, ?_⟩
    · show zI (znew u 105 k) x = _; rw [znew_I, if_neg hx]
    · show zR (znew u 105 k) x = _; rw [znew_R, if_neg hx]
    · show zA (znew u 105 k) x = _; rw [znew_A, if_neg hx]
    · rw [zsC_B, if_neg hx, znew_B, if_neg hx]
  have eT : zT U0 (zN u) = 105 := by subst hU0; show (if zN u = zN u then 105 else _) = _; rw [if_pos rfl]
  have eL : zL U0 (zN u) = k := by subst hU0; show (if zN u = zN u then k else _) = _; rw [if_pos rfl]
  have eB : ∀ i, i < k → zB U0 (zN u) i = zB u d i := fun i hi => by
    subst hU0; rw [zsC_B, if_pos rfl, pk_cpy_in (by omega) (by omega)]; congr 1; omega
  have l0 : LA U0 a b n := LA_sam hh (gs a haN) (gs b hbN) (by omega) (fun x hx => (g0.2 x hx).1)
  have l1 : LA (zsI U0 a 200 (zI U0 a 200 + 1)) a b n := by
    obtain ⟨q1, q2, q3, q4, q5, q6, q7, q8, q9⟩ := l0
    exact ⟨q1, q2, by rw [zsI_I, if_neg (fun q => by simp at q)]; exact q3, q4, q5, q6, q7, q8, q9⟩
  generalize hU1 : zsI U0 a 200 (zI U0 a 200 + 1) = U1 at l1
  have eT1 : zT U1 (zN u) = 105 := by subst hU1; exact eT
  have eL1 : zL U1 (zN u) = k := by subst hU1; exact eL
  have eB1 : zB U1 = zB U0 := by subst hU1; rfl
  have g1 : gro u U1 := by subst hU1; exact ⟨g0.1, g0.2⟩
  have gN1 : zN U1 = zN u + 1 := by subst hU1; exact gN
  have gs1 : ∀ x, x ≠ a → x ≠ zN u → sam u U1 x := fun x h1 h2 => by
    subst hU1; exact sam_zsI (gs x h2) h1
  have w1 : LW G U1 a b := by
    have : zL U1 b = zL u b := (g1.2 b q8).2
    refine ⟨hw.1, fun h0 => hw.2.1 (by omega), fun h0 => hw.2.2 (by omega)⟩
  have hE : ∀ i x, i < k → zB U1 (zN u) i = some x → zT U1 x ∈ OT ∧ x < zN u := fun i x hi hx => by
    rw [eB1, eB i hi] at hx
    obtain ⟨p, q⟩ := hc.2.2.2.2.2.2.2.2 i x hx
    exact ⟨by rw [(g1.2 x q).1]; exact p, q⟩
  have e0 : fJ2_addAll G (some a) (some c) u = (if (w32 (k : Int)) = 0 then
    some ((0, U1), 0, 0)
  else
    (gfR U1 6 201 (some a)).bind fun x6 =>
    (alen U1 5 x6).bind fun x7 =>
    (gfI U1 6 202 (some a)).bind fun x8 =>
    if (w32 (k : Int)) ≤ (w32 (x7 - x8)) then
      fJ2_addAll_b56 G (some a) (some (zN u)) (k : Int) x6 x8 U1
    else
      (ztg U1 6 (some a)).bind fun b9 =>
      bdU (fJ2_grow_2 G (some b9) (x8 + (k : Int)) U1) fun q10 =>
      fJ2_addAll_b56 G (some a) (some (zN u)) (k : Int) q10.1 x8 q10.2).map (fun r => (r.1, r.2.1 + 1, r.2.2 + k)) := by
    unfold fJ2_addAll
    rw [ztg_e hc.1, Option.bind_some, eA, bdU_e]
    simp only
    rw [gfI_e l0.1, Option.bind_some, pfI_e l0.1 hw.1, Option.bind_some, hU1, alen_e eT1, Option.bind_some, eL1]
  by_cases hk : k = 0
  · refine ⟨b, U1, ?_, by rw [hk]; exact l1, w1, fun i _ => by rw [eB1, (gs b hbN).2.2.2.2.2], fun i hi => by omega, Or.inl rfl, g1, by omega, fun x h0 h1 h2 => gs1 x h1 (by omega)⟩
    rw [e0, if_pos (by rw [hk]; rfl)]
    exact ⟨_, rfl, rfl, by show 0 + 1 ≤ 2; omega, by show 0 + k ≤ _; omega⟩
  · rw [if_neg (by rw [w32_n (by omega)]; omega), gfR_v l1.1 l1.2.1, Option.bind_some, alen_e l1.2.2.2.1, Option.bind_some, gfI_v l1.1 l1.2.2.1, Option.bind_some] at e0
    have hLb : zL U1 b = zL u b := (g1.2 b q8).2
    have hwd : w32 ((zL U1 b : Int) - (n : Int)) = ((zL U1 b - n : Nat) : Int) := by
      rw [show ((zL U1 b : Int) - (n : Int)) = ((zL U1 b - n : Nat) : Int) by omega, w32_n (by omega)]
    by_cases hr : k ≤ zL u b - n
    · rw [if_pos (by rw [hwd, w32_n (by omega)]; omega)] at e0
      obtain ⟨u', e1, a1, a2, a3, a4, a5, a6⟩ := J_ap (G := G) (e := zN u) l1 hw.1 (hw.2.2 (by omega)) (by omega) eT1 (by omega) eL1 (fun i x hi hx => ⟨(hE i x hi hx).1, by have := (hE i x hi hx).2; omega⟩)
      refine ⟨b, u', ?_, a1, ?_, fun i hi => by rw [a2 i hi, eB1, (gs b hbN).2.2.2.2.2], fun i hi => by rw [a3 i hi, eB1, eB i hi], Or.inl rfl, gro_tr g1 a4, by omega, fun x h0 h1 h2 => sam_tr (gs1 x h1 (by omega)) (a6 x h1 (fun e => by
        rcases h2 with h2 | h2
        · exact h2 e
        · rw [e] at h2; omega))⟩
      · rw [e0, e1]
        exact ⟨_, rfl, rfl, by show 0 + 1 ≤ 2; omega, by show 0 + k ≤ _; omega⟩
      · have : zL u' b = zL U1 b := (a4.2 b (by omega)).2
        exact ⟨hw.1, fun h0 => by omega, fun h0 => hw.2.2 (by omega)⟩
    · rw [if_neg (by rw [hwd, w32_n (by omega)]; omega), ztg_e l1.1, Option.bind_some, show ((n : Int) + (k : Int)) = ((n + k : Nat) : Int) by omega] at e0
      obtain ⟨L, f, e1, hL1, hL2, hf1, hf2⟩ := J_grow2 (w := n + k) l1 w1 (by omega) (by omega) (by omega) hs
      obtain ⟨t1, t2, t3, t4, t5, t6, t7⟩ := growTo_ok (L := L) l1 hf1 hf2 (by omega) (by omega)
      generalize hU2 : growTo U1 a L f = U2 at *
      rw [e1, bdU_e] at e0
      have s1 := t5 (zN u) (by omega) (by omega)
      obtain ⟨u', e2, a1, a2, a3, a4, a5, a6⟩ := J_ap (G := G) (e := zN u) (k := k) t1 hw.1 (by omega) (by omega) (by rw [s1.1]; exact eT1) (by omega) (by rw [s1.2.1]; exact eL1) (fun i x hi hx => by
        rw [s1.2.2.2.2.2] at hx
        obtain ⟨p, q⟩ := hE i x hi hx
        exact ⟨by rw [(t7.2 x (by omega)).1]; exact p, by omega⟩)
      refine ⟨zN U1, u', ?_, a1, ?_, fun i hi => by rw [a2 i hi, t3 i hi, eB1, (gs b hbN).2.2.2.2.2], fun i hi => by rw [a3 i hi, s1.2.2.2.2.2, eB1, eB i hi], Or.inr (by omega), gro_tr g1 (gro_tr t7 a4), by omega, fun x h0 h1 h2 => sam_tr (gs1 x h1 (by omega)) (sam_tr (t5 x h1 (by omega)) (a6 x h1 (by omega)))⟩
      · rw [e0]
        simp only
        rw [e2]
        exact ⟨_, rfl, rfl, by show 0 + 1 + 1 ≤ 2; omega, by show 0 + L + k ≤ _; omega⟩
      · have : zL u' (zN U1) = zL U2 (zN U1) := (a4.2 _ (by omega)).2
        exact ⟨hw.1, fun h0 => by omega, fun h0 => by omega⟩
/-- a copy of a list; when it is empty its array is the static one -/
theorem J_init2 {G : CG} {u : Sg} {a c d k e7 : Nat} (h : zT u a = 6) (ha : G.2.2.2.1 ≤ a) (haN : a < zN u) (hc : LA u c d k) (hca : c ≠ a) (hG : G.2.2.2.1 ≤ zN u) (hd : G.2.2.2.2 7 = some e7) (h7 : zT u e7 = 105 ∧ zL u e7 = 0 ∧ e7 < zN u ∧ ∀ i, zB u e7 i = none) :
    ∃ b' u', okU (fJ2_init_2 G (some a) (some c) u) 1 k (fun r => r = u') ∧ LA u' a b' k ∧ (0 < k → b' = zN u) ∧ (∀ i, i < k → zB u' b' i = zB u d i) ∧ gro u u' ∧ zN u' = zN u + 1 ∧ ∀ x, x ≠ a → x ≠ zN u → sam u u' x := by
  obtain ⟨q1, q2, q3, q4, q5, q6, q7, q8, q9⟩ := hc
  have hda : d ≠ a := fun q => by rw [q, h] at q4; cases q4
  have haZ : a ≠ zN u := by omega
  have l0 : LA (zsI u a 200 0) c d k := ⟨q1, q2, by rw [zsI_I, if_neg (fun q => hca q.1)]; exact q3, q4, q5, q6, q7, q8, q9⟩
  have eA := J_toArray (G := G) l0 hG
  have e7n : e7 ≠ zN u := by omega
  have eN : zN (zsI u a 200 0) = zN u := rfl
  rw [eN] at eA
  generalize hf : va_cpy (zB (zsI u a 200 0) d) (fun _ => none) 0 0 k = f at eA
  have hf1 : ∀ i, i < k → f i = zB u d i := fun i hi => by
    subst hf; rw [pk_cpy_in (by omega) (by omega)]; show zB u d _ = _; congr 1; omega
  have hf2 : ∀ i x, f i = some x → zT u x ∈ OT ∧ x < zN u := fun i x hx => by
    subst hf
    by_cases hi : i < k
    · rw [pk_cpy_in (by omega) (by omega)] at hx; exact q9 _ _ hx
    · rw [pk_cpy_out (by omega)] at hx; cases hx
  generalize hU0 : zsC (znew (zsI u a 200 0) 105 k) (zN u) f = U0 at eA
  have tT : ∀ x, zT U0 x = if x = zN u then 105 else zT u x := fun x => by subst hU0; rfl
  have tL : ∀ x, zL U0 x = if x = zN u then k else zL u x := fun x => by subst hU0; rfl
  have tI : ∀ x, x ≠ a → x ≠ zN u → zI U0 x = zI u x := fun x h1 h2 => by
    subst hU0; show zI (znew (zsI u a 200 0) 105 k) x = _
    rw [znew_I, if_neg (by exact h2)]; funext j; rw [zsI_I, if_neg (fun q => h1 q.1)]
  have tR : ∀ x, x ≠ zN u → zR U0 x = zR u x := fun x h2 => by
    subst hU0; show zR (znew (zsI u a 200 0) 105 k) x = _
    rw [znew_R, if_neg (by exact h2)]; rfl
  have tA : ∀ x, x ≠ zN u → zA U0 x = zA u x := fun x h2 => by
    subst hU0; show zA (znew (zsI u a 200 0) 105 k) x = _
    rw [znew_A, if_neg (by exact h2)]; rfl
  have tB : ∀ x, x ≠ zN u → zB U0 x = zB u x := fun x h2 => by
    subst hU0; rw [zsC_B, if_neg h2, znew_B, if_neg (by exact h2)]; rfl
  have tB2 : zB U0 (zN u) = f := by subst hU0; rw [zsC_B, if_pos rfl]
  have tN : zN U0 = zN u + 1 := by subst hU0; rfl
  have hT0 : zT U0 a = 6 := by rw [tT, if_neg haZ]; exact h
  have e0 : ∀ q, (if (w32 (k : Int)) = 0 then
    (pfR G.2.2.2.1 (zsI U0 a 202 (k : Int)) 6 201 (some a) (G.2.2.2.2 7))
  else
    (pfR G.2.2.2.1 (zsI U0 a 202 (k : Int)) 6 201 (some a) (some (zN u)))) = some q → fJ2_init_2 G (some a) (some c) u = some (q, 1, k) := by
    intro q hq
    unfold fJ2_init_2 fJ1_init fJ0_init
    simp only [Option.bind_some]
    rw [pfI_e h ha, Option.bind_some, Option.bind_some, ztg_e (by exact q1), Option.bind_some, eA, bdU_e]
    simp only
    rw [alen_e (by rw [tT, if_pos rfl]), Option.bind_some, tL, if_pos rfl, pfI_e hT0 ha, Option.bind_some]
    by_cases hk : w32 (k : Int) = 0
    · rw [if_pos hk] at hq ⊢
      rw [hq, Option.bind_some]; simp
    · rw [if_neg hk] at hq ⊢
      rw [ztg_e (by show zT U0 c = 6; rw [tT, if_neg (by omega)]; exact q1), Option.bind_some, if_pos trivial, hq, Option.bind_some]; simp
  have hp : ∀ w, pfR G.2.2.2.1 (zsI U0 a 202 (k : Int)) 6 201 (some a) w = some (zsR (zsI U0 a 202 (k : Int)) a 201 w) := fun w => pfR_e (by exact hT0) ha
  have main : ∀ b', b' ≠ a → (0 < k → b' = zN u) → (k = 0 → b' = e7) → zT U0 b' = 105 → zL U0 b' = k → b' < zN u + 1 → (∀ i x, zB U0 b' i = some x → zT u x ∈ OT ∧ x < zN u) → (∀ i, i < k → zB U0 b' i = zB u d i) →
      (fun u' => LA u' a b' k ∧ (0 < k → b' = zN u) ∧ (∀ i, i < k → zB u' b' i = zB u d i) ∧ gro u u' ∧ zN u' = zN u + 1 ∧ ∀ x, x ≠ a → x ≠ zN u → sam u u' x) (zsR (zsI U0 a 202 (k : Int)) a 201 (some b')) := by
    intro b' h1 h2 h2' h3 h4 h5 h6 h7
    refine ⟨⟨hT0, ?_, ?_, h3, Nat.le_of_eq h4.symm, ?_, ?_, ?_, ?_⟩, h2, h7, ⟨?_, ?_⟩, tN, ?_⟩
    · rw [zsR_R, if_pos ⟨rfl, rfl⟩]
    · show zI (zsI U0 a 202 (k : Int)) a 202 = _; rw [zsI_I, if_pos ⟨rfl, rfl⟩]
    · show zL U0 b' ≤ _; omega
    · show a < zN U0; omega
    · show b' < zN U0; omega
    · intro i x hx
      obtain ⟨p, q⟩ := h6 i x hx
      exact ⟨by show zT U0 x ∈ _; rw [tT, if_neg (by omega)]; exact p, by show x < zN U0; omega⟩
    · show zN u ≤ zN U0; omega
    · intro x hx
      exact ⟨by show zT U0 x = _; rw [tT, if_neg (by omega)], by show zL U0 x = _; rw [tL, if_neg (by omega)]⟩
    · intro x x1 x2
      refine ⟨by show zT U0 x = _; rw [tT, if_neg x2], by show zL U0 x = _; rw [tL, if_neg x2], ?_, ?_, tA x x2, tB x x2⟩
      · show zI (zsI U0 a 202 (k : Int)) x = _
        funext j; rw [zsI_I, if_neg (fun q => x1 q.1), tI x x1 x2]
      · funext j; rw [zsR_R, if_neg (fun q => x1 q.1)]
        show zR U0 x j = _; rw [tR x x2]
  by_cases hk : k = 0
  · have m1 := main e7 (fun q => by rw [q, h] at h7; cases h7.1) (fun _ => by omega) (fun _ => rfl) (by rw [tT, if_neg e7n]; exact h7.1) (by rw [tL, if_neg e7n, h7.2.1, hk]) (by omega) (fun i x hx => by rw [tB _ e7n, h7.2.2.2 i] at hx; cases hx) (fun i hi => by omega)
    have e1 := e0 _ (by rw [if_pos (by rw [hk]; rfl), hd]; exact hp (some e7))
    exact ⟨e7, _, ⟨_, e1, rfl, Nat.le_refl _, Nat.le_refl _⟩, m1⟩
  · have m1 := main (zN u) (fun q => haZ q.symm) (fun _ => rfl) (fun q => absurd q hk) (by rw [tT, if_pos rfl]) (by rw [tL, if_pos rfl]) (by omega) (fun i x hx => by rw [tB2] at hx; exact hf2 i x hx) (fun i hi => by rw [tB2]; exact hf1 i hi)
    have e1 := e0 _ (by rw [if_neg (by rw [w32_n (by omega)]; omega)]; exact hp (some (zN u)))
    exact ⟨zN u, _, ⟨_, e1, rfl, Nat.le_refl _, Nat.le_refl _⟩, m1⟩
