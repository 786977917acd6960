/-! THE READER: the end: a wording is registered; the text ends -/
theorem RC_ts {G : CG} {L : Ly} {u : Sg} {m : Mu} (h : RC G L u m) : RC G L (zsI u (L.1 3) 2 0) (ms m 2 0) := by
  have hR := h.1
  have hS := h.2.1
  have hA := h.2.2.1
  refine RC_pl h ?_ ?_ ?_ ?_
  · exact sc2_I sc2_rf (Or.inl (by rw [rC3 hR]; decide))
  · exact mfr_ms mfr_rf (by decide)
  · obtain ⟨s1, s2, s3, s4, s5, s6, s7, s8, s9, s10, s11, s12, s13, s14, s15, s16, s17, s18⟩ := hS
    simp [RS, zsI_I, zsA_I, ms_1, ma_1]
    omega
  · refine ⟨fun j hj => ?_, hA.2⟩
    rw [ms_1, if_pos rfl] at hj
    omega
theorem RC_fp {G : CG} {L : Ly} {u : Sg} {m : Mu} (h : RC G L u m) (P : Int) : RC G L (zsI u (L.1 3) 3 P) (ms m 10 P) := by
  have hR := h.1
  have hS := h.2.1
  have hA := h.2.2.1
  refine RC_pl h ?_ ?_ ?_ ?_
  · exact sc2_I sc2_rf (Or.inl (by rw [rC3 hR]; decide))
  · exact mfr_ms mfr_rf (by decide)
  · obtain ⟨s1, s2, s3, s4, s5, s6, s7, s8, s9, s10, s11, s12, s13, s14, s15, s16, s17, s18⟩ := hS
    simp [RS, zsI_I, zsA_I, ms_1, ma_1]
    omega
  · exact hA
/-- what a reading and its end may change in the twin -/
def SF7 : List Nat := [3, 4, 5, 6, 7, 8, 9, 46, 47, 49, 50, 51, 52, 56, 62]
def AF7 : List Nat := [12, 13, 14, 15, 16, 17, 18, 19, 20, 21, 22, 23, 24, 25, 26, 27, 28, 29, 30, 31, 32, 33, 34, 35, 36, 37, 38, 39, 40, 41, 42, 43, 44, 45, 48, 53, 54, 55, 57, 58, 59, 60, 61]
theorem RC_tw {G : CG} {L : Ly} {u : Sg} {m m' : Mu} (h : RC G L u m) (q : mfr SF7 AF7 m m') (hs : ∀ w : Nat, 1 ≤ w → (w : Int) ≤ m.1 11 → slc m' w = slc m w) : RC G L u m' := by
  obtain ⟨hR, hS, hA, hJ, hW, hE, hP, hK⟩ := h
  have s1 : ∀ l : List Nat, (∀ k ∈ l, k ∉ SF7) → ∀ k, k ∈ l → m'.1 k = m.1 k := fun l hl k hk => q.1 k (hl k hk)
  have s2 : ∀ l : List Nat, (∀ k ∈ l, k ∉ AF7) → ∀ k, k ∈ l → m'.2 k = m.2 k := fun l hl k hk => q.2 k (hl k hk)
  exact ⟨hR, RS_mm (s1 _ (by decide)) hS, RA_mm (s1 _ (by decide)) (s2 _ (by decide)) hA, RJ_mm (s1 _ (by decide)) (s2 _ (by decide)) hJ, RW_mm (q.1 11 (by decide)) hs hW, RE_mm (q.1 11 (by decide)) (q.1 71 (by decide)) (s2 _ (by decide)) hs hE, RP_mm (by rw [q.1 11 (by decide)]; exact Int.le_refl _) (q.1 81 (by decide)) (s2 _ (by decide)) hP, RK_mm (q.1 87 (by decide)) (by rw [q.1 81 (by decide)]; exact Int.le_refl _) (by rw [q.1 71 (by decide)]; exact Int.le_refl _) (s2 _ (by decide)) hK⟩
theorem Mu_e {m m' : Mu} (h1 : ∀ k, m'.1 k = m.1 k) (h2 : m'.2 = m.2) : m' = m := by
  cases m; cases m'
  congr 1
  funext k; exact h1 k
/-- the end behind a fault at P -/
theorem RC_bad {G : CG} {L : Ly} {u : Sg} {m m' : Mu} {P : Int} (h : RC G L u m) (q : mfr (2 :: 10 :: SF7) AF7 m m') (hs : ∀ w : Nat, 1 ≤ w → (w : Int) ≤ m.1 11 → slc m' w = slc m w) (h2 : m'.1 2 = 0) (h10 : m'.1 10 = P) : RC G L (zsI (zsI u (L.1 3) 3 P) (L.1 3) 2 0) m' := by
  have h1 : RC G L u (ms (ms m' 10 (m.1 10)) 2 (m.1 2)) := by
    refine RC_tw h ⟨fun k hk => ?_, fun k hk => q.2 k hk⟩ (fun w a b => hs w a b)
    rw [ms_1]
    by_cases z : k = 2
    · rw [if_pos z, z]
    · rw [if_neg z, ms_1]
      by_cases z2 : k = 10
      · rw [if_pos z2, z2]
      · rw [if_neg z2]; exact q.1 k (by simp only [List.mem_cons, not_or]; exact ⟨z, z2, hk⟩)
  have h3 := RC_ts (RC_fp h1 P)
  have e : ms (ms (ms (ms m' 10 (m.1 10)) 2 (m.1 2)) 10 P) 2 0 = m' := by
    refine Mu_e (fun k => ?_) rfl
    rw [ms_1]
    by_cases z : k = 2
    · rw [if_pos z, z, h2]
    · rw [if_neg z, ms_1]
      by_cases z2 : k = 10
      · rw [if_pos z2, z2, h10]
      · rw [if_neg z2, ms_1, if_neg z, ms_1, if_neg z2]
  rw [e] at h3
  exact h3
/-- a new wording comes to the others -/
theorem RC_reg {G : CG} {L : Ly} {t t' : Sg} {m m' : Mu} {a b' n : Nat} (h : RC G L t m) (hn : m.1 11 = (n : Int)) (hn11 : n ≤ 11) (hA : WA G L t a (slc m' (n + 1))) (hM : WM (slc m' (n + 1))) (hAD : AD G t t' (L.1 105) (L.1 151) b' n (some a)) (q : mfr (11 :: SF7) AF7 m m') (h11 : m'.1 11 = (n : Int) + 1) (hs : ∀ w : Nat, 1 ≤ w → w ≤ n → slc m' w = slc m w) : ∃ L' : Ly, L'.1 3 = L.1 3 ∧ RC G L' t' m' := by
  have h0 := h
  obtain ⟨hR, hS, hAr, hJ, hW, hE, hP, hK⟩ := h
  have hML : ML G t L 105 151 n (fun i => L.1 (301 + i)) := by
    have := hW.2.2.1
    rw [hn] at this
    exact this
  obtain ⟨f, hf0⟩ : ∃ f : Nat → Nat, f = fun r => if r = 301 + n then a else if r = 151 then b' else L.1 r := ⟨_, rfl⟩
  have k0 := hK.2.1
  have e0 := hE.2.1
  have p0 := hP.2.1
  have hf : ∀ q, OR m q → q ≠ 151 → f q = L.1 q := fun q hq hne => by
    rw [hf0]
    show (if q = 301 + n then a else if q = 151 then b' else L.1 q) = L.1 q
    rw [if_neg (by unfold OR at hq; omega), if_neg hne]
  have fn : f (301 + n) = a := by rw [hf0]; show (if 301 + n = 301 + n then a else _) = a; rw [if_pos rfl]
  have f151 : f 151 = b' := by rw [hf0]; show (if 151 = 301 + n then a else if 151 = 151 then b' else _) = b'; rw [if_neg (by omega), if_pos rfl]
  obtain ⟨r1, r2, r3, r4, r5, r6, r7, r8, r9, r10, r11, r12⟩ := grow_rest (f := f) (nw := fun _ => 0) h0 hML (by simp) gro_rf (fun _ _ => sam_rf) hAD hf
  have rML := grow_ML (f := f) (nw := fun _ => 0) (el' := fun i => f (301 + i)) hR hML (by decide) gro_rf (fun _ _ => sam_rf) hAD (hf 105 (by unfold OR; omega) (by decide)) f151 (fun i hi => hf _ (by unfold OR; omega) (by omega)) fn
  obtain ⟨ge, gl, -⟩ := grow_1 (f := f) (nw := fun _ => 0) hR hML (by decide) gro_rf (fun _ _ => sam_rf) hAD
  have hfz := frz_low hR ge gl (by omega)
  have hWn := WA_k hfz hA
  have hL3 : (mkL f L (zN t) (zN t) b' 151 (fun _ => 0)).1 3 = L.1 3 := hf 3 (by unfold OR; omega) (by decide)
  have hL1 : ∀ r, (mkL f L (zN t) (zN t) b' 151 (fun _ => 0)).1 r = f r := fun _ => rfl
  generalize hLL : mkL f L (zN t) (zN t) b' 151 (fun _ => 0) = L' at *
  have s1 : ∀ l : List Nat, (∀ k ∈ l, k ∉ 11 :: SF7) → ∀ k, k ∈ l → m'.1 k = m.1 k := fun l hl k hk => q.1 k (hl k hk)
  have s2 : ∀ l : List Nat, (∀ k ∈ l, k ∉ AF7) → ∀ k, k ∈ l → m'.2 k = m.2 k := fun l hl k hk => q.2 k (hl k hk)
  -- events hang on their wordings
  have eEE : ∀ e : Nat, 1 ≤ e → (e : Int) ≤ m.1 71 → EE G L' t' m' e := fun e q1 q2 => by
    have x := r10 e q1 q2
    have x1 := x.1
    have x2 := x.2.1
    have e72 : m'.2 72 e = m.2 72 e := by rw [q.2 72 (by decide)]
    have es : slc m' (m.2 72 e).toNat = slc m (m.2 72 e).toNat := hs _ (by omega) (by omega)
    unfold EE at x ⊢
    rw [e72, es, q.2 73 (by decide), q.2 74 (by decide), q.2 75 (by decide)]
    exact ⟨x1, by omega, x.2.2⟩
  refine ⟨L', hL3, r1, RS_mm (s1 _ (by decide)) r2, RA_mm (s1 _ (by decide)) (s2 _ (by decide)) r3, RJ_mm (s1 _ (by decide)) (s2 _ (by decide)) r4, ⟨by omega, by omega, ?_, fun w q1 q2 => ?_⟩, ⟨by rw [q.1 71 (by decide)]; exact hE.1, by rw [q.1 71 (by decide)]; exact hE.2.1, ?_, fun e q1 q2 => eEE e q1 (by rw [q.1 71 (by decide)] at q2; exact q2)⟩, RP_mm (m := m) (by omega) (q.1 81 (by decide)) (s2 _ (by decide)) ⟨hP.1, hP.2.1, ?_, r11⟩, RK_mm (m := m) (q.1 87 (by decide)) (by rw [q.1 81 (by decide)]; exact Int.le_refl _) (by rw [q.1 71 (by decide)]; exact Int.le_refl _) (s2 _ (by decide)) ⟨hK.1, hK.2.1, ?_, r12, hK.2.2.2.2⟩⟩
  · rw [show (m'.1 11).toNat = n + 1 by omega]
    rw [show (fun i => L'.1 (301 + i)) = fun i => f (301 + i) from funext (fun i => hL1 _)]
    exact rML
  · by_cases z : w = n + 1
    · subst z
      refine ⟨hM, ?_⟩
      rw [hL1, show 300 + (n + 1) = 301 + n by omega, fn]; exact hWn
    · rw [hs w q1 (by omega)]
      refine ⟨(hW.2.2.2 w q1 (by omega)).1, ?_⟩
      rw [hL1]; exact r9 w q1 (by omega)
  · rw [q.1 71 (by decide), show (fun i => L'.1 (401 + i)) = fun i => f (401 + i) from funext (fun i => hL1 _)]
    exact r6 (by decide)
  · rw [show (fun i => L'.1 (5008 + 8 * i)) = fun i => f (5008 + 8 * i) from funext (fun i => hL1 _)]
    exact r7 (by decide)
  · rw [show (fun i => L'.1 (4008 + 8 * i)) = fun i => f (4008 + 8 * i) from funext (fun i => hL1 _)]
    exact r8 (by decide)
