/-! MOVING the relation to a new layout and a new heap -/
/-- the old cells keep their colours, new ones are where nothing lay -/
def ext (L L' : Ly) (u u' : Sg) : Prop := gro u u' ∧ (∀ a, (L.2 a = 1 ∨ (L.2 a ≠ 0 ∧ L.1 (L.2 a) = a)) → L'.2 a = L.2 a) ∧ ∀ a, L'.2 a ≠ 0 → a < zN u'
/-- cells of low colours (the object, its parts, what is frozen) are the same -/
def low (L : Ly) (u u' : Sg) (X : Nat → Prop) : Prop := ∀ a, (L.2 a = 1 ∨ (3 ≤ L.2 a ∧ L.2 a < 300)) → ¬ X (L.2 a) → sam u u' a
theorem frz_low {G : CG} {L L' : Ly} {u u' : Sg} {X : Nat → Prop} (hR : Rt G u L) (he : ext L L' u u') (hl : low L u u' X) (hX : ¬ X 1) : frz L L' u u' :=
  ⟨he.1, fun a ha => ⟨by rw [he.2.1 a (Or.inl ha)]; exact ha, hl a (Or.inl ha) (by rw [ha]; exact hX)⟩⟩
def OldR (r : Nat) : Prop := r = 3 ∨ (100 ≤ r ∧ r ≤ 149) ∨ (160 ≤ r ∧ r ≤ 177)
theorem T0_old : ∀ q ∈ T0, (q.1 = 3 ∨ (100 ≤ q.1 ∧ q.1 ≤ 149) ∨ (160 ≤ q.1 ∧ q.1 ≤ 177)) ∧ q.1 ≠ 105 ∧ q.1 ≠ 106 ∧ q.1 ≠ 107 ∧ q.1 ≠ 108 ∧ 3 ≤ q.1 ∧ q.1 < 300 := by decide
theorem R0_old : ∀ q ∈ R0, (q.1 = 3 ∨ (100 ≤ q.1 ∧ q.1 ≤ 149) ∨ (160 ≤ q.1 ∧ q.1 ≤ 177)) ∧ (q.2.2 = 3 ∨ (100 ≤ q.2.2 ∧ q.2.2 ≤ 149) ∨ (160 ≤ q.2.2 ∧ q.2.2 ≤ 177)) ∧ ∃ t ∈ T0, t.1 = q.1 := by decide
theorem Rt_m {G : CG} {L L' : Ly} {u u' : Sg} {X : Nat → Prop} (hR : Rt G u L) (he : ext L L' u u') (hl : low L u u' X) (hX : ∀ r, X r → r = 105 ∨ r = 106 ∨ r = 107 ∨ r = 108 ∨ (151 ≤ r ∧ r ≤ 154)) (hr : ∀ r, OldR r → L'.1 r = L.1 r) : Rt G u' L' := by
  have hX1 : ¬ X 1 := fun q => by have := hX _ q; omega
  have hf := frz_low hR he hl hX1
  refine ⟨fun q hq => ?_, fun q hq => ?_, he.2.2, fun a ha => ?_, Nat.le_trans hR.2.2.2.2.1 he.1.1, St_k hR.2.2.2.1 hf hR.2.2.2.2.2.1, ?_⟩
  · obtain ⟨o1, o2, o3, o4, o5, o6, o7⟩ := T0_old q hq
    obtain ⟨a1, a2, a3, a4⟩ := hR.1 q hq
    rw [hr q.1 o1, he.2.1 _ (Or.inr ⟨by rw [a3]; omega, by rw [a3]⟩)]
    have hs := hl (L.1 q.1) (Or.inr (by rw [a3]; omega)) (fun x => by rw [a3] at x; have := hX _ x; omega)
    exact ⟨by rw [hs.1]; exact a1, by rw [hs.2.1]; exact a2, a3, a4⟩
  · obtain ⟨o1, o2, t, o3, o4⟩ := R0_old q hq
    obtain ⟨p1, p2, p3, p4, p5, p6, p7⟩ := T0_old t o3
    have a3 := (hR.1 t o3).2.2.1
    rw [o4] at a3 p1 p2 p3 p4 p5 p6 p7
    rw [hr q.1 o1, hr q.2.2 o2]
    have hs := hl (L.1 q.1) (Or.inr (by rw [a3]; omega)) (fun x => by rw [a3] at x; have := hX _ x; omega)
    rw [hs.2.2.2.1]
    exact hR.2.1 q hq
  · rw [he.2.1 a (Or.inl (hR.2.2.2.1 a ha))]; exact hR.2.2.2.1 a ha
  · have h6 := hR.2.2.2.2.2.2
    rw [hr 146 (by unfold OldR; omega)]
    obtain ⟨b, b1, b2, b3, b4⟩ := LF_k hf h6
    exact ⟨b, b1, b2, b3, fun i hi => by rw [b4 i hi]; show some (L.1 (160 + i)) = some (L'.1 (160 + i)); rw [hr (160 + i) (by unfold OldR; omega)]⟩
theorem ML_m {G : CG} {L L' : Ly} {u u' : Sg} {X : Nat → Prop} {r rb n : Nat} {el el' : Nat → Nat} (hR : Rt G u L) (he : ext L L' u u') (hl : low L u u' X) (hX : ¬ X 1 ∧ ¬ X r ∧ ¬ X rb) (h3 : 3 ≤ r ∧ r < 300 ∧ 3 ≤ rb ∧ rb < 300) (h1 : L'.1 r = L.1 r) (h2 : L'.1 rb = L.1 rb) (hel : ∀ i, i < n → el' i = el i) (k : ML G u L r rb n el) : ML G u' L' r rb n el' := by
  obtain ⟨a1, a2, a3, a4, a5⟩ := k
  have s1 : sam u u' (L.1 r) := hl _ (Or.inr (by rw [a3]; omega)) (by rw [a3]; exact hX.2.1)
  have s2 : sam u u' (L.1 rb) := by
    by_cases hz : 0 < zL u (L.1 rb)
    · exact hl _ (Or.inr (by rw [a4 hz]; omega)) (by rw [a4 hz]; exact hX.2.2)
    · obtain ⟨b, e1, e2, -⟩ := hR.2.2.2.2.2.1.2.1
      have : some b = some (L.1 rb) := by rw [← e1]; exact a2.2.1 (by omega)
      cases this
      have := hR.2.2.2.1 _ e2
      exact hl _ (Or.inl this) (by rw [this]; exact hX.1)
  refine ⟨?_, ?_, ?_, ?_, ?_⟩
  · rw [h1, h2]; exact LA_sam a1 s1 s2 he.1.1 (fun x hx => (he.1.2 x hx).1)
  · rw [h1, h2]; exact ⟨a2.1, by rw [s2.2.1]; exact a2.2.1, by rw [s2.2.1]; exact a2.2.2⟩
  · rw [h1, he.2.1 _ (Or.inr ⟨by rw [a3]; omega, by rw [a3]⟩)]; exact a3
  · rw [h2, s2.2.1]; intro z; rw [he.2.1 _ (Or.inr ⟨by rw [a4 z]; omega, by rw [a4 z]⟩)]; exact a4 z
  · intro i hi; rw [h2, s2.2.2.2.2.2, hel i hi]; exact a5 i hi
theorem KA_m {G : CG} {L L' : Ly} {u u' : Sg} {r : Nat} {n : Int} {vs ds : Nat → Int} (hR : Rt G u L) (he : ext L L' u u') (hr0 : 0 < r) (hs : ∀ j, j < 3 → L'.1 (r + j) = L.1 (r + j) ∧ (L.2 (L.1 (r + j)) = r + j → sam u u' (L.1 (r + j)))) (k : KA G L u r n vs ds) : KA G L' u' r n vs ds := by
  have c : ∀ j, j < 3 → L.2 (L.1 (r + j)) = r + j := by
    intro j hj
    rcases (show j = 0 ∨ j = 1 ∨ j = 2 by omega) with rfl | rfl | rfl
    · exact k.2.2.1
    · exact (k.2.2.2.2.2.2.1 0 (by omega)).2.2.2.2
    · exact (k.2.2.2.2.2.2.1 1 (by omega)).2.2.2.2
  have k2 := KA_k (fun j hj => (hs j hj).2 (c j hj)) k
  obtain ⟨a1, a2, a3, a4, a5, a6, a7, a8⟩ := k2
  have l : ∀ j, j < 3 → L'.2 (L.1 (r + j)) = r + j := fun j hj => by rw [he.2.1 _ (Or.inr ⟨by rw [c j hj]; omega, by rw [c j hj]⟩)]; exact c j hj
  have e0 : L'.1 r = L.1 r := (hs 0 (by omega)).1
  have e1 : ∀ j, j < 2 → L'.1 (r + 1 + j) = L.1 (r + 1 + j) := fun j hj => by
    have := (hs (1 + j) (by omega)).1
    rw [← Nat.add_assoc] at this
    exact this
  refine ⟨by rw [e0]; exact a1, by rw [e0]; exact a2, by rw [e0]; exact l 0 (by omega), by rw [e0]; exact a4, a5, a6, fun j hj => ?_, fun k hk => ?_⟩
  · rw [e0, e1 j hj]
    obtain ⟨b1, b2, b3, b4, b5⟩ := a7 j hj
    refine ⟨b1, b2, b3, b4, ?_⟩
    have := l (1 + j) (by omega)
    rw [← Nat.add_assoc] at this
    exact this
  · rw [(hs 1 (by omega)).1, (hs 2 (by omega)).1]; exact a8 k hk
theorem RS_m {G : CG} {L L' : Ly} {u u' : Sg} {m : Mu} (hR : Rt G u L) (hs : sam u u' (L.1 3)) (h3 : L'.1 3 = L.1 3) (k : RS L u m) : RS L' u' m := by unfold RS; rw [h3, hs.2.2.1]; exact k
theorem RA_m {G : CG} {L L' : Ly} {u u' : Sg} {m : Mu} {X : Nat → Prop} (hR : Rt G u L) (hl : low L u u' X) (hX : ∀ r, X r → r = 105 ∨ r = 106 ∨ r = 107 ∨ r = 108 ∨ (151 ≤ r ∧ r ≤ 154)) (hr : ∀ r, OldR r → L'.1 r = L.1 r) (k : RA L u m) : RA L' u' m := by
  have q : ∀ r, L.2 (L.1 r) = r → 100 ≤ r → r ≤ 149 → r ≠ 105 → r ≠ 106 → r ≠ 107 → r ≠ 108 → zA u' (L'.1 r) = zA u (L.1 r) := by
    intro r e h1 h2 h3 h4 h5 h6
    rw [hr r (by unfold OldR; omega)]
    exact (hl _ (Or.inr (by rw [e]; omega)) (fun x => by rw [e] at x; have := hX _ x; omega)).2.2.2.2.1
  unfold RA
  rw [q 101 (rC101 hR) (by decide) (by decide) (by decide) (by decide) (by decide) (by decide), q 109 (rC109 hR) (by decide) (by decide) (by decide) (by decide) (by decide) (by decide), q 110 (rC110 hR) (by decide) (by decide) (by decide) (by decide) (by decide) (by decide), q 111 (rC111 hR) (by decide) (by decide) (by decide) (by decide) (by decide) (by decide), q 118 (rC118 hR) (by decide) (by decide) (by decide) (by decide) (by decide) (by decide), q 119 (rC119 hR) (by decide) (by decide) (by decide) (by decide) (by decide) (by decide), q 120 (rC120 hR) (by decide) (by decide) (by decide) (by decide) (by decide) (by decide), q 121 (rC121 hR) (by decide) (by decide) (by decide) (by decide) (by decide) (by decide), q 125 (rC125 hR) (by decide) (by decide) (by decide) (by decide) (by decide) (by decide), q 127 (rC127 hR) (by decide) (by decide) (by decide) (by decide) (by decide) (by decide), q 128 (rC128 hR) (by decide) (by decide) (by decide) (by decide) (by decide) (by decide), q 100 (rC100 hR) (by decide) (by decide) (by decide) (by decide) (by decide) (by decide)]
  exact k
theorem RJ_m {G : CG} {L L' : Ly} {u u' : Sg} {m : Mu} {X : Nat → Prop} (hR : Rt G u L) (hl : low L u u' X) (hX : ∀ r, X r → r = 105 ∨ r = 106 ∨ r = 107 ∨ r = 108 ∨ (151 ≤ r ∧ r ≤ 154)) (hr : ∀ r, OldR r → L'.1 r = L.1 r) (k : RJ L u m) : RJ L' u' m := by
  have q : ∀ r, L.2 (L.1 r) = r → 100 ≤ r → r ≤ 149 → r ≠ 105 → r ≠ 106 → r ≠ 107 → r ≠ 108 → zA u' (L'.1 r) = zA u (L.1 r) ∧ zI u' (L'.1 r) = zI u (L.1 r) := by
    intro r e h1 h2 h3 h4 h5 h6
    rw [hr r (by unfold OldR; omega)]
    have := hl _ (Or.inr (by rw [e]; omega)) (fun x => by rw [e] at x; have := hX _ x; omega)
    exact ⟨this.2.2.2.2.1, this.2.2.1⟩
  unfold RJ
  rw [(q 147 (rC147 hR) (by decide) (by decide) (by decide) (by decide) (by decide) (by decide)).1, (q 148 (rC148 hR) (by decide) (by decide) (by decide) (by decide) (by decide) (by decide)).1, (q 149 (rC149 hR) (by decide) (by decide) (by decide) (by decide) (by decide) (by decide)).1, (q 115 (rC115 hR) (by decide) (by decide) (by decide) (by decide) (by decide) (by decide)).2]
  exact k
/-- the wordings one by one -/
theorem WE_m {G : CG} {L L' : Ly} {u u' : Sg} {w : Nat} {W : Wv} (hf : frz L L' u u') (h1 : L'.1 (300 + w) = L.1 (300 + w)) (k : WA G L u (L.1 (300 + w)) W) : WA G L' u' (L'.1 (300 + w)) W := by rw [h1]; exact WA_k hf k
/-- an event -/
theorem EE_m {G : CG} {L L' : Ly} {u u' : Sg} {m : Mu} {e : Nat} (hR : Rt G u L) (he : ext L L' u u') (hf : frz L L' u u') (h1 : L'.1 (400 + e) = L.1 (400 + e)) (h2 : ∀ w : Nat, 1 ≤ w → (w : Int) ≤ m.1 11 → L'.1 (300 + w) = L.1 (300 + w)) (h3 : ∀ j, j < 64 → L'.1 (1000 + 64 * e + j) = L.1 (1000 + 64 * e + j) ∧ (L.2 (L.1 (1000 + 64 * e + j)) = 1000 + 64 * e + j → sam u u' (L.1 (1000 + 64 * e + j)))) (h8 : nF (slc m (m.2 72 e).toNat) ≤ 8) (k : EE G L u m e) : EE G L' u' m e := by
  obtain ⟨b1, b2, b3, b4, b5, l, b6, b7, b8⟩ := k
  obtain ⟨c0, c1, c2, c3, c4, -⟩ := hf.2 _ b3
  refine ⟨b1, b2, by rw [h1]; exact c0, by rw [h1, c1]; exact b4, by rw [h1, c4, h2 _ (by omega) (by omega)]; exact b5, l, by rw [h1, c4]; exact b6, ?_, fun f hf9 => ⟨?_, (b8 f hf9).2⟩⟩
  · obtain ⟨b, d1, d2, d3, d4⟩ := LF_k hf b7
    exact ⟨b, d1, d2, d3, fun i hi => by rw [d4 i hi]; show some (L.1 (1000 + 64 * e + 8 * i)) = some (L'.1 (1000 + 64 * e + 8 * i)); rw [(h3 (8 * i) (by omega)).1]⟩
  · refine KA_m hR he (by omega) (fun j hj => ?_) (b8 f hf9).1
    have := h3 (8 * f + j) (by omega)
    rw [← Nat.add_assoc] at this
    exact this
/-- a policy -/
theorem PE_m {G : CG} {L L' : Ly} {u u' : Sg} {m : Mu} {p : Nat} (hR : Rt G u L) (he : ext L L' u u') (h3 : ∀ j, j < 8 → L'.1 (5000 + 8 * p + j) = L.1 (5000 + 8 * p + j) ∧ (L.2 (L.1 (5000 + 8 * p + j)) = 5000 + 8 * p + j → sam u u' (L.1 (5000 + 8 * p + j)))) (k : PE G L u m p) : PE G L' u' m p := by
  obtain ⟨b1, b2, b3, b4, b5, b6, b7, b8⟩ := k
  obtain ⟨e0, s0⟩ := h3 0 (by omega)
  rw [Nat.add_zero] at e0 s0
  have s0 := s0 b3
  have s1 : ∀ j, j < 4 → L'.1 (5001 + 8 * p + j) = L.1 (5001 + 8 * p + j) ∧ sam u u' (L.1 (5001 + 8 * p + j)) ∧ L'.2 (L.1 (5001 + 8 * p + j)) = 5001 + 8 * p + j := by
    intro j hj
    have e : 5000 + 8 * p + (1 + j) = 5001 + 8 * p + j := by omega
    obtain ⟨q1, q2⟩ := h3 (1 + j) (by omega)
    rw [e] at q1 q2
    have q3 := (b7 j hj).2.2.2.2
    exact ⟨q1, q2 q3, by rw [he.2.1 _ (Or.inr ⟨by rw [q3]; omega, by rw [q3]⟩)]; exact q3⟩
  refine ⟨by rw [e0, s0.1]; exact b1, by rw [e0]; exact b2, by rw [e0, he.2.1 _ (Or.inr ⟨by rw [b3]; omega, by rw [b3]⟩)]; exact b3, by rw [e0, s0.2.2.1]; exact b4, b5, b6, fun j hj => ?_, fun k hk => ⟨fun j hj => ?_, (b8 k hk).2⟩⟩
  · obtain ⟨q1, q2, q3⟩ := s1 j hj
    obtain ⟨c1, c2, c3, c4, c5⟩ := b7 j hj
    rw [e0, q1, s0.2.2.2.1]
    exact ⟨c1, by rw [q2.1]; exact c2, by rw [q2.2.1]; exact c3, c4, q3⟩
  · obtain ⟨q1, q2, q3⟩ := s1 j hj
    rw [q1, q2.2.2.2.2.1]; exact (b8 k hk).1 j hj
/-- a claim -/
theorem KE_m {G : CG} {L L' : Ly} {u u' : Sg} {m : Mu} {c : Nat} (hR : Rt G u L) (he : ext L L' u u') (h2 : ∀ e : Nat, 1 ≤ e → (e : Int) ≤ m.1 71 → L'.1 (400 + e) = L.1 (400 + e)) (h3 : ∀ j, j < 8 → L'.1 (4000 + 8 * c + j) = L.1 (4000 + 8 * c + j) ∧ (L.2 (L.1 (4000 + 8 * c + j)) = 4000 + 8 * c + j → sam u u' (L.1 (4000 + 8 * c + j)))) (k : KE G L u m c) : KE G L' u' m c := by
  obtain ⟨b1, b2, b3, b4, b5, b6, b7, b8, b9, b10, b11, b12, b13, b14, b15, b16, b17, b18, b19, b20⟩ := k
  obtain ⟨e0, s0⟩ := h3 0 (by omega)
  rw [Nat.add_zero] at e0 s0
  have s0 := s0 b3
  have e1 : L'.1 (4001 + 8 * c) = L.1 (4001 + 8 * c) := by
    have := (h3 1 (by omega)).1
    rw [show 4000 + 8 * c + 1 = 4001 + 8 * c by omega] at this
    exact this
  unfold KE
  rw [e0, s0.1, s0.2.2.1, s0.2.2.2.1, h2 _ (by omega) (by omega), e1, he.2.1 _ (Or.inr ⟨by rw [b3]; omega, by rw [b3]⟩)]
  refine ⟨b1, b2, b3, b4, b5, b6, b7, b8, b9, b10, b11, b12, b13, b14, b15, b16, KA_m hR he (by omega) (fun j hj => ?_) b17, b18, b19, b20⟩
  have := h3 (1 + j) (by omega)
  rw [show 4000 + 8 * c + (1 + j) = 4001 + 8 * c + j by omega] at this
  exact this
