/-! THE READER: the end: the heap has grown, all stands -/
/-- coloured cells keep colour and content -/
theorem RC_ext {G : CG} {L L' : Ly} {u t : Sg} {m : Mu} (h : RC G L u m) (he : ext L L' u t) (hs : ∀ q, L.2 q ≠ 0 → sam u t q) (hf : ∀ q, OR m q → L'.1 q = L.1 q) : RC G L' t m := by
  have h0 := h
  obtain ⟨hR, hS, hAr, hJ, hW, hE, hP, hK⟩ := h
  have hl : low L u t (fun _ => False) := fun a ha _ => hs a (by omega)
  have hX : ∀ q, (fun _ : Nat => False) q → q = 105 ∨ q = 106 ∨ q = 107 ∨ q = 108 ∨ (151 ≤ q ∧ q ≤ 154) := fun q hq => hq.elim
  have hold : ∀ q, OldR q → L'.1 q = L.1 q := fun q hq => hf q (by unfold OldR at hq; unfold OR; omega)
  have hfz := frz_low hR he hl (fun z => z)
  have hi : ∀ q, L.2 (L.1 q) = q → 1000 ≤ q → sam u t (L.1 q) := fun q hc hq => hs _ (by omega)
  have w0 := hW.1
  have e0 := hE.1
  have p0 := hP.1
  have k0 := hK.1
  refine ⟨Rt_m hR he hl hX hold, RS_m hR (hs _ (by rw [rC3 hR]; decide)) (hold 3 (Or.inl rfl)) hS, RA_m hR hl hX hold hAr, RJ_m hR hl hX hold hJ, ⟨hW.1, hW.2.1, ?_, fun w q1 q2 => ⟨(hW.2.2.2 w q1 q2).1, ?_⟩⟩, ⟨hE.1, hE.2.1, ?_, fun e q1 q2 => ?_⟩, ⟨hP.1, hP.2.1, ?_, fun p q1 q2 => ?_⟩, ⟨hK.1, hK.2.1, ?_, fun c q1 q2 => ?_, hK.2.2.2.2⟩⟩
  · exact ML_m hR he hl ⟨fun z => z, fun z => z, fun z => z⟩ (by decide) (hf 105 (by unfold OR; omega)) (hf 151 (by unfold OR; omega)) (fun i hi => hf _ (by unfold OR; omega)) hW.2.2.1
  · exact WE_m hfz (hf _ (by unfold OR; omega)) (hW.2.2.2 w q1 q2).2
  · exact ML_m hR he hl ⟨fun z => z, fun z => z, fun z => z⟩ (by decide) (hf 106 (by unfold OR; omega)) (hf 152 (by unfold OR; omega)) (fun i hi => hf _ (by unfold OR; omega)) hE.2.2.1
  · exact EE_m hR he hfz (hf _ (by unfold OR; omega)) (fun w z1 z2 => hf _ (by unfold OR; omega)) (fun j hj => ⟨hf _ (by unfold OR; omega), fun hc => hi _ hc (by omega)⟩) (ev_nF h0 e q1 q2) (hE.2.2.2 e q1 q2)
  · exact ML_m hR he hl ⟨fun z => z, fun z => z, fun z => z⟩ (by decide) (hf 107 (by unfold OR; omega)) (hf 153 (by unfold OR; omega)) (fun i hi => hf _ (by unfold OR; omega)) hP.2.2.1
  · exact PE_m hR he (fun j hj => ⟨hf _ (by unfold OR; omega), fun hc => hi _ hc (by omega)⟩) (hP.2.2.2 p q1 q2)
  · exact ML_m hR he hl ⟨fun z => z, fun z => z, fun z => z⟩ (by decide) (hf 108 (by unfold OR; omega)) (hf 154 (by unfold OR; omega)) (fun i hi => hf _ (by unfold OR; omega)) hK.2.2.1
  · exact KE_m hR he (fun e z1 z2 => hf _ (by unfold OR; omega)) (fun j hj => ⟨hf _ (by unfold OR; omega), fun hc => hi _ hc (by omega)⟩) (hK.2.2.2.1 c q1 q2)
