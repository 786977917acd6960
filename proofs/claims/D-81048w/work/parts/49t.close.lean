/-! close -/
def MSb : List Nat := [101, 102] ++ MS0
def MAb : List Nat := [103, 104, 105, 106, 107, 108] ++ MA0
theorem mald_cg {m m' : Mu} {k n : Nat} {i : Int} (h : m'.2 k = m.2 k) : mald m' k n i = mald m k n i := by unfold mald; rw [h]
theorem held_cg {m m' : Mu} {p w d k : Int} (h : ∀ j, j ∈ [82, 83, 84, 85, 86] → m'.2 j = m.2 j) : m5_held p w d k m' = m5_held p w d k m := by
  have key : ∀ n a b c e, m5_held_l12 p w d k m' n a b c e = m5_held_l12 p w d k m n a b c e := by
    intro n
    induction n with
    | zero => intro a b c e; rfl
    | succ n ih =>
      intro a b c e
      have ihf : m5_held_l12 p w d k m' n = m5_held_l12 p w d k m n := by funext a b c e; exact ih a b c e
      unfold m5_held_l12 m5_held_b105
      simp only [mald_cg (h 82 (by decide)), mald_cg (h 83 (by decide)), mald_cg (h 84 (by decide)), mald_cg (h 85 (by decide)), mald_cg (h 86 (by decide)), ihf]
  unfold m5_held
  rw [key]
theorem PVc_bk {m m' : Mu} (h : mfr MSb MAb m m') {p : Nat} {day : Int} {c : Nat} : PVc m' p day c = PVc m p day c := by
  have t : ∀ j, j ∈ [72, 73, 74, 75, 82, 83, 84, 85, 86, 88, 89, 90, 91, 92, 93, 94] → m'.2 j = m.2 j := fun j hj => h.2 j (by revert hj; revert j; decide)
  have hh : hv m' = hv m := by
    funext p w d k
    rw [hv_e, hv_e, held_cg (fun j hj => t j (by revert hj; revert j; decide))]
  have hs : ∀ w, slc m' w = slc m w := fun w => slc_of (fun j h1 h2 => h.2 j (fun q => by
    simp only [MAb, MA0, List.cons_append, List.nil_append, List.mem_cons, List.not_mem_nil, or_false] at q
    omega))
  have hve : ∀ e day, vvE m' e day = vvE m e day := fun e day => by
    funext f
    unfold vvE
    rw [t 75 (by decide), t 74 (by decide), t 73 (by decide)]
  have hd : dueV m' = dueV m := by
    funext p day c a b
    rw [dueV_e, dueV_e, hh, t 90 (by decide), t 89 (by decide), t 72 (by decide), t 92 (by decide), t 93 (by decide), t 94 (by decide), hs, hs, hve]
  have hr : ∀ k, run m' p day k = run m p day k := by
    intro k
    induction k with
    | zero => rfl
    | succ k ih =>
      have hp : pk m' p day k = pk m p day k := by
        unfold pk
        rw [ih, pkA_cg (t 88 (by decide)) (t 90 (by decide)) (t 91 (by decide)), h.1 87 (by decide)]
      rw [run_S, run_S, ih, hp, hd, h.1 87 (by decide), t 90 (by decide)]
  unfold PVc
  rw [hr]
/-- a row of the book -/
def bkM (m : Mu) (c a v d : Int) : Mu := ms (ma (ma (ma (ma m 103 (m.1 102).toNat c) 104 (m.1 102).toNat a) 105 (m.1 102).toNat v) 106 (m.1 102).toNat d) 102 (m.1 102 + 1)
theorem m_book {m : Mu} (h0 : 0 ≤ m.1 102) (h1 : m.1 102 < 400) (c a v d : Int) : m5_book c a v d m = some (bkM m c a v d) := by
  unfold m5_book
  rw [mast_e (m.1 102).toNat (by omega) (by omega) (by omega), Option.bind_some, ma_1, mast_e (m.1 102).toNat (by omega) (by omega) (by omega), Option.bind_some, ma_1, ma_1, mast_e (m.1 102).toNat (by omega) (by omega) (by omega), Option.bind_some, ma_1, ma_1, ma_1, mast_e (m.1 102).toNat (by omega) (by omega) (by omega), Option.bind_some, Option.bind_some]
  rfl
theorem bkM_fr {m : Mu} {c a v d : Int} : mfr [102] [103, 104, 105, 106] m (bkM m c a v d) := mfr_ms (mfr_ma (mfr_ma (mfr_ma (mfr_ma mfr_rf (by simp)) (by simp)) (by simp)) (by simp)) (by simp)
theorem bkM_n {m : Mu} {c a v d : Int} : (bkM m c a v d).1 102 = m.1 102 + 1 := by unfold bkM; rw [ms_1, if_pos rfl]
theorem bkM_ma {m : Mu} {c a v d : Int} {k i : Nat} {x : Int} (h : k ≠ 103 ∧ k ≠ 104 ∧ k ≠ 105 ∧ k ≠ 106) : bkM (ma m k i x) c a v d = ma (bkM m c a v d) k i x := by
  unfold bkM
  refine Prod.ext rfl (funext fun j => ?_)
  rw [ma_1]
  show (ma (ma (ma (ma (ma m k i x) 103 _ c) 104 _ a) 105 _ v) 106 _ d).2 j = (ma (ms (ma (ma (ma (ma m 103 _ c) 104 _ a) 105 _ v) 106 _ d) 102 _) k i x).2 j
  simp only [ma_2, ms_2]
  obtain ⟨h1, h2, h3, h4⟩ := h
  by_cases hj : j = k
  · subst hj
    simp [h1, h2, h3, h4]
  · have : k ≠ j := fun q => hj q.symm
    simp [hj, h1.symm, h2.symm, h3.symm, h4.symm]
theorem ma_id {m : Mu} {k i : Nat} {x : Int} (h : m.2 k i = x) : ma m k i x = m := by
  refine Prod.ext rfl (funext fun j => ?_)
  rw [ma_2]
  by_cases hj : j = k
  · subst hj
    rw [if_pos rfl]
    funext b
    rw [va_up_e]
    by_cases hb : b = i
    · rw [if_pos hb, hb, h]
    · rw [if_neg hb]
  · rw [if_neg hj]
theorem c_book {G : CG} {L : Ly} {u : Sg} {m : Mu} (h : RC G L u m) (hs : m.1 102 < 400) {c a v d : Int} (ha : -2147483648 ≤ a ∧ a < 2147483648) (hv : -2147483648 ≤ v ∧ v < 2147483648) : ∃ u', f0_book G (some (L.1 3)) c a v d u = some u' ∧ RC G L u' (bkM m c a v d) ∧ zA u' (L.1 116) = zA u (L.1 116) := by
  have h0 := h
  obtain ⟨hR, hS, hA, -⟩ := h
  obtain ⟨s1, s2, s3, s4, s5, s6, s7, s8, s9, s10, s11, s12, s13, s14, s15, s16, s17, s18⟩ := hS
  obtain ⟨t, ht⟩ : ∃ t : Nat, m.1 102 = t := ⟨(m.1 102).toNat, by omega⟩
  have s8' := s8
  rw [ht] at s8' hs
  have l18 := rL118 hR
  have l19 := rL119 hR
  have l20 := rL120 hR
  have l21 := rL121 hR
  have n1 := rne (rC119 hR) (rC118 hR) (by decide)
  have n2 := rne (rC120 hR) (rC118 hR) (by decide)
  have n3 := rne (rC121 hR) (rC118 hR) (by decide)
  have n4 := rne (rC120 hR) (rC119 hR) (by decide)
  have n5 := rne (rC121 hR) (rC119 hR) (by decide)
  have n6 := rne (rC121 hR) (rC120 hR) (by decide)
  refine ⟨zsA (zsI (zsA (zsA (zsA u (L.1 118) t c) (L.1 119) t a) (L.1 120) t v) (L.1 3) 22 ((t : Int) + 1)) (L.1 121) t d, ?_, ?_, ?_⟩
  · unfold f0_book
    refine ok_is (ok_eq (gfR_v (rT3 hR) (rR3_18 hR)) (ok_eq (gfI_v (rT3 hR) s8') (ok_eq (asI_e t (rT118 hR) (rG118 hR) rfl (by omega) (by omega)) ?_)))
    refine ok_eq (gfR_v (rT3 hR) (rR3_19 hR)) (ok_eq (gfI_v (rT3 hR) s8') (ok_eq (asI_e t (rT119 hR) (rG119 hR) rfl (by show t < zL u _; omega) (by show zL u _ ≤ _; omega)) ?_))
    refine ok_eq (gfR_v (rT3 hR) (rR3_20 hR)) (ok_eq (gfI_v (rT3 hR) s8') (ok_eq (asI_e t (rT120 hR) (rG120 hR) rfl (by show t < zL u _; omega) (by show zL u _ ≤ _; omega)) ?_))
    exact ok_eq (gfR_v (rT3 hR) (rR3_21 hR)) (ok_eq (gfI_v (rT3 hR) s8') (ok_eq (pfI_e (rT3 hR) (rG3 hR)) (ok_eq (asI_e t (show zT u (L.1 121) = 100 + 1 from rT121 hR) (rG121 hR) rfl (by show t < zL u _; omega) (by show zL u _ ≤ _; omega)) (ok_some rfl))))
  · have et : (m.1 102).toNat = t := by omega
    refine RC_pl h0 ?_ (mfr_up bkM_fr (by simp [MS2]) (by simp [MA2])) ?_ ?_
    · exact sc2_A (sc2_I (sc2_A (sc2_A (sc2_A sc2_rf (by rw [rC118 hR]; decide)) (by rw [rC119 hR]; decide)) (by rw [rC120 hR]; decide)) (Or.inl (by rw [rC3 hR]; decide))) (by rw [rC121 hR]; decide)
    · unfold bkM
      simp [RS, zsI_I, zsA_I, ms_1, ma_1]
      omega
    · have kA : ∀ r, L.2 (L.1 r) = r → r ≠ 118 → r ≠ 119 → r ≠ 120 → r ≠ 121 → zA (zsA (zsI (zsA (zsA (zsA u (L.1 118) t c) (L.1 119) t a) (L.1 120) t v) (L.1 3) 22 ((t : Int) + 1)) (L.1 121) t d) (L.1 r) = zA u (L.1 r) := by
        intro r e q1 q2 q3 q4
        rw [zA_ne (rne e (rC121 hR) q4), zsI_A, zA_ne (rne e (rC120 hR) q3), zA_ne (rne e (rC119 hR) q2), zA_ne (rne e (rC118 hR) q1)]
      unfold RA
      rw [kA 101 (rC101 hR) (by decide) (by decide) (by decide) (by decide), kA 109 (rC109 hR) (by decide) (by decide) (by decide) (by decide), kA 110 (rC110 hR) (by decide) (by decide) (by decide) (by decide), kA 111 (rC111 hR) (by decide) (by decide) (by decide) (by decide), kA 125 (rC125 hR) (by decide) (by decide) (by decide) (by decide), kA 127 (rC127 hR) (by decide) (by decide) (by decide) (by decide), kA 128 (rC128 hR) (by decide) (by decide) (by decide) (by decide), kA 100 (rC100 hR) (by decide) (by decide) (by decide) (by decide)]
      obtain ⟨a1, a2, a3, a4⟩ := hA
      refine ⟨a1, a2, fun i hi => ?_, a4⟩
      have hi : (i : Int) < m.1 102 + 1 := by rw [bkM_n] at hi; exact hi
      unfold bkM
      rw [et]
      by_cases hit : i = t
      · subst hit
        simp [zsI_A, zsA_A, ms_2, ma_2, va_up_e, n1, n2, n3, n4, n5, n6, n1.symm, n2.symm, n3.symm, n4.symm, n5.symm, n6.symm]
        omega
      · have := a3 i (by omega)
        simp [zsI_A, zsA_A, ms_2, ma_2, va_up_e, n1, n2, n3, n4, n5, n6, n1.symm, n2.symm, n3.symm, n4.symm, n5.symm, n6.symm, hit]
        exact this
  · rw [zA_ne (rne (rC116 hR) (rC121 hR) (by decide)), zsI_A, zA_ne (rne (rC116 hR) (rC120 hR) (by decide)), zA_ne (rne (rC116 hR) (rC119 hR) (by decide)), zA_ne (rne (rC116 hR) (rC118 hR) (by decide))]
/-- what is booked of a claim is set -/
theorem RC_set {G : CG} {L : Ly} {u : Sg} {m : Mu} (h : RC G L u m) {c : Nat} (c1 : 1 ≤ c) (c2 : (c : Int) ≤ m.1 87) {x y : Int} (hx : 0 ≤ x ∧ x ≤ 99999999) (hy : 0 ≤ y ∧ y ≤ 99999999) : RC G L (zsI (zsI u (L.1 (4000 + 8 * c)) 845 x) (L.1 (4000 + 8 * c)) 846 y) (ma (ma m 107 c x) 108 c y) := by
  have h0 := h
  obtain ⟨hR, hS, hA, hJ, hW, hE, hP, hK⟩ := h
  have hKc := hK.2.2.2.1 c c1 c2
  have hwr : wr L u (zsI (zsI u (L.1 (4000 + 8 * c)) 845 x) (L.1 (4000 + 8 * c)) 846 y) (fun r => r = 4000 + 8 * c) := wr_I (wr_I wr_rf hKc.2.2.1) hKc.2.2.1
  have n40 := hK.2.1
  obtain ⟨t1, t2, t3, t4, t5⟩ := wr_low (m := m) hR hwr (fun r q => by omega)
  have hMo : ∀ j, j ≠ 107 → j ≠ 108 → (ma (ma m 107 c x) 108 c y).2 j = m.2 j := fun j q1 q2 => by rw [ma_o q2, ma_o q1]
  have hM7 : ∀ i, (ma (ma m 107 c x) 108 c y).2 107 i = if i = c then x else m.2 107 i := fun i => by rw [ma_o (by decide), ma_s]
  have hM8 : ∀ i, (ma (ma m 107 c x) 108 c y).2 108 i = if i = c then y else m.2 108 i := fun i => by rw [ma_s, ma_o (by decide)]
  have hM1 : (ma (ma m 107 c x) 108 c y).1 = m.1 := rfl
  have hI : ∀ g, zI (zsI (zsI u (L.1 (4000 + 8 * c)) 845 x) (L.1 (4000 + 8 * c)) 846 y) (L.1 (4000 + 8 * c)) g = if g = 846 then y else if g = 845 then x else zI u (L.1 (4000 + 8 * c)) g := fun g => by
    rw [zsI_I, zsI_I]
    simp
  have hRr : zR (zsI (zsI u (L.1 (4000 + 8 * c)) 845 x) (L.1 (4000 + 8 * c)) 846 y) = zR u := rfl
  have hTt : zT (zsI (zsI u (L.1 (4000 + 8 * c)) 845 x) (L.1 (4000 + 8 * c)) 846 y) = zT u := rfl
  generalize ma (ma m 107 c x) 108 c y = m' at *
  generalize zsI (zsI u (L.1 (4000 + 8 * c)) 845 x) (L.1 (4000 + 8 * c)) 846 y = u' at *
  have hz : ∀ w, slc m' w = slc m w := fun w => slc_of (fun j q1 q2 => hMo j (by omega) (by omega))
  have he := ext_same hR hwr.1 hwr.2.1 hwr.2.2.1
  have hl : low L u u' (fun _ => False) := fun a ha _ => wr_sam hwr (fun q => by omega)
  refine ⟨t1, RS_mm (fun _ _ => by rw [hM1]) (t2 hS), RA_mm (fun _ _ => by rw [hM1]) (fun j hj => hMo j (by rintro rfl; revert hj; decide) (by rintro rfl; revert hj; decide)) (t3 hA), RJ_mm (fun _ _ => by rw [hM1]) (fun j hj => hMo j (by rintro rfl; revert hj; decide) (by rintro rfl; revert hj; decide)) (t4 hJ), RW_mm (by rw [hM1]) (fun w _ _ => hz w) (t5 hW), RE_mm (by rw [hM1]) (by rw [hM1]) (fun j hj => hMo j (by rintro rfl; revert hj; decide) (by rintro rfl; revert hj; decide)) (fun w _ _ => hz w) (wr_E hR hwr (fun r q => by omega) (ev_nF h0) hE), RP_mm (by rw [hM1]; exact Int.le_refl _) (by rw [hM1]) (fun j hj => hMo j (by rintro rfl; revert hj; decide) (by rintro rfl; revert hj; decide)) (wr_P hR hwr (fun r q => by omega) hP), ?_⟩
  unfold RK
  rw [hM1]
  refine ⟨hK.1, hK.2.1, ML_m hR he hl ⟨fun q => q, fun q => q, fun q => q⟩ (by decide) rfl rfl (fun _ _ => rfl) hK.2.2.1, fun k q1 q2 => ?_, fun k q1 => ?_⟩
  · by_cases hkc : k = c
    · subst hkc
      obtain ⟨b1, b2, b3, b4, b5, b6, b7, b8, b9, b10, b11, b12, b13, b14, b15, b16, b17, b18, b19, b20⟩ := hKc
      unfold KE
      rw [hM1, hMo 88 (by decide) (by decide), hMo 89 (by decide) (by decide), hMo 90 (by decide) (by decide), hMo 91 (by decide) (by decide), hMo 92 (by decide) (by decide), hMo 93 (by decide) (by decide), hMo 94 (by decide) (by decide), hM7, hM8, if_pos rfl, if_pos rfl, hI, hI, hI, hI, hI, hRr, hTt]
      refine ⟨b1, b2, b3, b4, b5, b6, b7, b8, b9, b10, b11, b12, b13, b14, b15, b16, KA_m hR he (by omega) (fun j hj => ⟨rfl, fun z => wr_sam hwr (fun q => by omega)⟩) b17, b18, by simp, by simp, hx.1, hx.2, hy.1, hy.2⟩
    · refine KE_mm (m := m) (by rw [hM1]; exact Int.le_refl _) (by rw [hM1]; exact Int.le_refl _) (fun j hj => ?_) (fun j i hj q3 q4 => by rw [hMo j (by omega) (by omega)]) (KE_m hR he (fun _ _ _ => rfl) (fun j hj => ⟨rfl, fun z => wr_sam hwr (fun q => by omega)⟩) (hK.2.2.2.1 k q1 q2))
      by_cases j7 : j = 107
      · rw [j7, hM7, if_neg hkc]
      · by_cases j8 : j = 108
        · rw [j8, hM8, if_neg hkc]
        · rw [hMo j j7 j8]
  · rw [hM7, hM8, if_neg (by omega), if_neg (by omega)]
    exact hK.2.2.2.2 k q1
