/-! THE READER: a clause -/
theorem f16_e {G : CG} {u : Sg} {x : Nat} {v1 v3 : Int} {v2 : Option Nat} (h : zT u x = 17) (hG : G0 G ≤ x) : f16_init G (some x) v1 v2 v3 u = some (zsI (zsR (zsI u x 640 v1) x 641 v2) x 642 v3) := by
  unfold f16_init
  rw [Option.bind_some, pfI_e h hG, Option.bind_some, pfR_e (show zT (zsI u x 640 v1) x = 17 from h) hG, Option.bind_some, pfI_e (show zT (zsR (zsI u x 640 v1) x 641 v2) x = 17 from h) hG, Option.bind_some]
/-- IX is kept by a condition (the new nodes aside) -/
theorem cond_WB {G : CG} {L : Ly} {r a N0 : Nat} {κ : Nat → Nat} {t t' : Sg} {m m' : Mu} {W : Wv} (h : WB G r a N0 κ t m W) (k : fr7 r t t') (km : mfr CS7 CA7 m m') (h46 : m.1 46 ≤ m'.1 46) (hnd : ∀ i, i < (m.1 46).toNat → ndN m' i = ndN m i) (h0 : 0 ≤ m.1 46) : WB G r a N0 (fzn κ (zN t) (zN t')) t' m' W := by
  obtain ⟨k1, k2⟩ := KO_fzn h.1 k
  refine WB_k k2 k1 (slc_fr km CA7_wid) (km.1 56 (by decide)) ⟨h46, fun i hi => hnd i (by omega)⟩ (fun n _ => ?_) h
  rw [km.2 53 (by decide), km.2 54 (by decide), km.2 55 (by decide)]
  exact ⟨rfl, rfl, rfl⟩
/-- the twin's clause, once it has a fault or a bad token at the condition's end -/
theorem rdC_f {m m4 : Mu} {K P : Int} (hK : 1 ≤ K ∧ K ≤ 6) (h : MFI m m4 K P) (h56 : 0 ≤ m4.1 56 ∧ m4.1 56 < 1400) : ∃ m', ((mast m4 55 1400 (m4.1 56) (m4.1 46)).bind fun u5 => (some (ms u5 56 ((u5.1 56) + 1))).bind fun u6 => (m5_wantsSign 6 u6).bind fun u7 => some u7) = some m' ∧ MFI m m' K P := by
  rw [mast_e (m4.1 56).toNat (by omega) (by omega) (by omega), Option.bind_some, Option.bind_some]
  obtain ⟨m5, hm5⟩ : ∃ m5, m5 = ms (ma m4 55 (m4.1 56).toNat (m4.1 46)) 56 ((ma m4 55 (m4.1 56).toNat (m4.1 46)).1 56 + 1) := ⟨_, rfl⟩
  rw [← hm5]
  have h5 : MFI m m5 K P := by
    refine ⟨?_, MI_tr h.2 (by rw [hm5]; exact MI_tr (MI_ma (by decide) (Or.inl rfl)) (MI_ms (by decide)))⟩
    have o : ∀ j, j ≠ 56 → m5.1 j = m4.1 j := fun j hj => by rw [hm5, ms_1, if_neg hj]; rfl
    rw [o 8 (by decide), o 9 (by decide), o 4 (by decide), o 5 (by decide)]
    exact h.1
  obtain ⟨m', e, h6⟩ := wS_any (v := 6) (by decide) hK h5
  exact ⟨m', by rw [e]; rfl, h6⟩
