/-! WHAT KEEPS THE RELATION -/
/-- roles that hold nothing from call to call -/
def SCP : List Nat := [114, 116, 117, 129, 130, 140, 141, 142, 143, 144, 145, 160, 161, 162, 163, 164, 165, 166, 167, 170, 171, 172, 173, 174, 175, 176, 177]
/-- since u only such cells have changed -/
def scp (L : Ly) (u u' : Sg) : Prop := zT u' = zT u ∧ zL u' = zL u ∧ zB u' = zB u ∧ zN u' = zN u ∧ (∀ a g, ¬ (L.2 a = 114 ∧ g = 80) → ¬ (L.2 a = 3 ∧ g = 4) → zR u' a g = zR u a g) ∧ (∀ a, L.2 a ∉ SCP → zA u' a = zA u a ∧ ∀ g, ¬ (L.2 a = 115 ∧ (g = 121 ∨ g = 122)) → zI u' a g = zI u a g)
theorem scp_rf {L : Ly} {u : Sg} : scp L u u := ⟨rfl, rfl, rfl, rfl, fun _ _ _ _ => rfl, fun _ _ => ⟨rfl, fun _ _ => rfl⟩⟩
theorem scp_tr {L : Ly} {u v w : Sg} (h : scp L u v) (k : scp L v w) : scp L u w :=
  ⟨k.1.trans h.1, k.2.1.trans h.2.1, k.2.2.1.trans h.2.2.1, k.2.2.2.1.trans h.2.2.2.1, fun a g h1 h2 => (k.2.2.2.2.1 a g h1 h2).trans (h.2.2.2.2.1 a g h1 h2), fun a ha => ⟨(k.2.2.2.2.2 a ha).1.trans (h.2.2.2.2.2 a ha).1, fun g hg => ((k.2.2.2.2.2 a ha).2 g hg).trans ((h.2.2.2.2.2 a ha).2 g hg)⟩⟩
theorem scp_I {L : Ly} {u v : Sg} {a g : Nat} {x : Int} (h : scp L u v) (ha : L.2 a ∈ SCP ∨ (L.2 a = 115 ∧ (g = 121 ∨ g = 122))) : scp L u (zsI v a g x) :=
  ⟨h.1, h.2.1, h.2.2.1, h.2.2.2.1, h.2.2.2.2.1, fun b hb => ⟨(h.2.2.2.2.2 b hb).1, fun j hj => by
    rw [zsI_I, if_neg (fun q => ?_)]
    · exact (h.2.2.2.2.2 b hb).2 j hj
    · obtain ⟨q1, q2⟩ := q
      rw [q1, q2] at hj
      rw [q1] at hb
      rcases ha with ha | ha
      · exact hb ha
      · exact hj ha⟩⟩
theorem scp_A {L : Ly} {u v : Sg} {a g : Nat} {x : Int} (h : scp L u v) (ha : L.2 a ∈ SCP) : scp L u (zsA v a g x) :=
  ⟨h.1, h.2.1, h.2.2.1, h.2.2.2.1, h.2.2.2.2.1, fun b hb => ⟨by
    rw [← (h.2.2.2.2.2 b hb).1]
    funext j
    rw [zsA_A, if_neg (fun q => hb (by rw [q.1]; exact ha))], (h.2.2.2.2.2 b hb).2⟩⟩
theorem scp_R {L : Ly} {u v : Sg} {a g : Nat} {x : Option Nat} (h : scp L u v) (ha : (L.2 a = 114 ∧ g = 80) ∨ (L.2 a = 3 ∧ g = 4)) : scp L u (zsR v a g x) :=
  ⟨h.1, h.2.1, h.2.2.1, h.2.2.2.1, fun b j h1 h2 => by
    rw [zsR_R, if_neg (fun q => ?_)]
    · exact h.2.2.2.2.1 b j h1 h2
    · rw [q.1, q.2] at h1 h2
      rcases ha with ha | ha
      · exact h1 ha
      · exact h2 ha, h.2.2.2.2.2⟩
/-- a cell of another role is as it was -/
theorem scp_sam {L : Ly} {u u' : Sg} (h : scp L u u') {a : Nat} (h1 : L.2 a ∉ SCP) (h3 : L.2 a ≠ 3) (h5 : L.2 a ≠ 115) : sam u u' a := by
  have h4 : L.2 a ≠ 114 := fun q => h1 (by rw [q]; decide)
  exact ⟨by rw [h.1], by rw [h.2.1], funext fun g => (h.2.2.2.2.2 a h1).2 g (fun q => h5 q.1), funext fun g => h.2.2.2.2.1 a g (fun q => h4 q.1) (fun q => h3 q.1), (h.2.2.2.2.2 a h1).1, by rw [h.2.2.1]⟩
theorem scp_gro {L : Ly} {u u' : Sg} (h : scp L u u') : gro u u' := ⟨by rw [h.2.2.2.1]; exact Nat.le_refl _, fun x _ => ⟨by rw [h.1], by rw [h.2.1]⟩⟩
/-- what is frozen stays -/
def frz (L L' : Ly) (u u' : Sg) : Prop := gro u u' ∧ ∀ a, L.2 a = 1 → L'.2 a = 1 ∧ sam u u' a
theorem frz_scp {L : Ly} {u u' : Sg} (h : scp L u u') : frz L L u u' := ⟨scp_gro h, fun a ha => ⟨ha, scp_sam h (by rw [ha]; decide) (by rw [ha]; decide) (by rw [ha]; decide)⟩⟩
theorem LF_k {L L' : Ly} {u u' : Sg} {a n : Nat} {el : Nat → Nat} (h : frz L L' u u') (k : LF L u a n el) : LF L' u' a n el := by
  obtain ⟨b, h1, h2, h3, h4⟩ := k
  exact ⟨b, LA_sam h1 (h.2 a h2).2 (h.2 b h3).2 h.1.1 (fun x hx => (h.1.2 x hx).1), (h.2 a h2).1, (h.2 b h3).1, fun i hi => by rw [(h.2 b h3).2.2.2.2.2.2]; exact h4 i hi⟩
theorem AF_k {L L' : Ly} {u u' : Sg} {a t n : Nat} (h : frz L L' u u') (k : AF L u a t n) : AF L' u' a t n := by
  obtain ⟨h1, h2, h3⟩ := k
  have := h.2 a h1
  exact ⟨this.1, by rw [this.2.1]; exact h2, by rw [this.2.2.1]; exact h3⟩
theorem CA_k {L L' : Ly} {G : CG} {u u' : Sg} {W : Wv} {d c : Nat} {ns : List Nd} (h : frz L L' u u') (k : CA (FW L u W) G u d c ns) : CA (FW L' u' W) G u' d c ns := CA_sam (fun a ha => ⟨⟨(h.2 a ha.1).1, by rw [(h.2 a ha.1).2.1, (h.2 a ha.1).2.2.2.1]; exact ha.2⟩, (h.2 a ha.1).2⟩) h.1 d c ns k
theorem FA_k {L L' : Ly} {u u' : Sg} {W : Wv} {a f : Nat} (h : frz L L' u u') (k : FA L u W a f) : FA L' u' W a f := by
  obtain ⟨h1, h2, h3, h4, h5, h6, h7, c, h8, h9, h10⟩ := k
  obtain ⟨p0, p1, p2, p3, p4, p5, p6⟩ := h.2 a h1
  refine ⟨p0, by rw [p1]; exact h2, by rw [p3]; exact h3, by rw [p3]; exact h4, by rw [p3]; exact h5, by rw [p3]; exact h6, by rw [p3]; exact h7, c, by rw [p4]; exact h8, AF_k h h9, fun k hk => ?_⟩
  rw [(h.2 c h9.1).2.2.2.2.2.1]; exact h10 k hk
theorem SA_k {L L' : Ly} {u u' : Sg} {W : Wv} {a f : Nat} (h : frz L L' u u') (k : SA L u W a f) : SA L' u' W a f := by
  obtain ⟨h1, h2, h3, r, h4, h5, h6⟩ := k
  obtain ⟨p0, p1, p2, p3, p4, p5, p6⟩ := h.2 a h1
  refine ⟨p0, by rw [p1]; exact h2, by rw [p3]; exact h3, r, by rw [p4]; exact h4, AF_k h h5, fun k hk => ?_⟩
  rw [(h.2 r h5.1).2.2.2.2.2.1]; exact h6 k hk
theorem WA_k {G : CG} {L L' : Ly} {u u' : Sg} {a : Nat} {W : Wv} (h : frz L L' u u') (k : WA G L u a W) : WA G L' u' a W := by
  obtain ⟨⟨h1, h2⟩, ⟨l1, e1, a1, b1, c1⟩, ⟨l2, e2, a2, b2, c2⟩, ⟨l3, e3, a3, b3, c3⟩, ⟨l4, e4, a4, b4, c4⟩, ⟨l5, e5, a5, b5, c5⟩, ⟨s1, s2, d, s3, s4, s5⟩, ⟨n1, n2, n3⟩, ⟨l6, e6, a6, b6, c6⟩, ⟨x, y, x1, x2, x3, x4, x5⟩⟩ := k
  obtain ⟨p0, p1, p2, p3, p4, p5, p6⟩ := h.2 a h1
  unfold WA
  rw [p1, p3, p4]
  refine ⟨⟨p0, h2⟩, ⟨l1, e1, a1, LF_k h b1, fun f hf => FA_k h (c1 f hf)⟩, ⟨l2, e2, a2, LF_k h b2, fun k hk => ?_⟩, ⟨l3, e3, a3, LF_k h b3, fun k hk => CA_k h (c3 k hk)⟩, ⟨l4, e4, a4, LF_k h b4, fun k hk => ?_⟩, ⟨l5, e5, a5, LF_k h b5, fun k hk => ?_⟩, ⟨s1, s2, d, s3, AF_k h s4, fun k hk => ?_⟩, ⟨n1, n2, n3⟩, ⟨l6, e6, a6, LF_k h b6, fun f hf => SA_k h (c6 f hf)⟩, ⟨x, y, x1, x2, AF_k h x3, AF_k h x4, fun c hc => ?_⟩⟩
  · obtain ⟨q1, q2, q3⟩ := c2 k hk
    obtain ⟨r0, r1, r2, r3, r4⟩ := h.2 _ q1
    exact ⟨r0, by rw [r1]; exact q2, by rw [r3]; exact q3⟩
  · obtain ⟨q1, q2, q3, q4, c, q5, q6⟩ := c4 k hk
    obtain ⟨r0, r1, r2, r3, r4, -⟩ := h.2 _ q1
    exact ⟨r0, by rw [r1]; exact q2, by rw [r3]; exact q3, by rw [r3]; exact q4, c, by rw [r4]; exact q5, CA_k h q6⟩
  · obtain ⟨q1, q2, q3, q4, q5⟩ := c5 k hk
    obtain ⟨r0, r1, r2, r3, r4, -⟩ := h.2 _ q1
    refine ⟨r0, by rw [r1]; exact q2, by rw [r3]; exact q3, by rw [r3]; exact q4, ?_⟩
    rw [r4]
    rcases q5 with q5 | ⟨q5, c, q6, q7⟩
    · exact Or.inl q5
    · exact Or.inr ⟨q5, c, q6, CA_k h q7⟩
  · rw [(h.2 d s4.1).2.2.2.2.2.1]; exact s5 k hk
  · rw [(h.2 x x3.1).2.2.2.2.2.1, (h.2 y x4.1).2.2.2.2.2.1]; exact x5 c hc
theorem ML_k {G : CG} {L : Ly} {u u' : Sg} {r rb n : Nat} {el : Nat → Nat} (hg : gro u u') (h1 : sam u u' (L.1 r)) (h2 : sam u u' (L.1 rb)) (k : ML G u L r rb n el) : ML G u' L r rb n el := by
  obtain ⟨a1, a2, a3, a4, a5⟩ := k
  refine ⟨LA_sam a1 h1 h2 hg.1 (fun x hx => (hg.2 x hx).1), ⟨a2.1, by rw [h2.2.1]; exact a2.2.1, by rw [h2.2.1]; exact a2.2.2⟩, a3, by rw [h2.2.1]; exact a4, fun i hi => by rw [h2.2.2.2.2.2]; exact a5 i hi⟩
theorem KA_k {G : CG} {L : Ly} {u u' : Sg} {r : Nat} {n : Int} {vs ds : Nat → Int} (h : ∀ j, j < 3 → sam u u' (L.1 (r + j))) (k : KA G L u r n vs ds) : KA G L u' r n vs ds := by
  obtain ⟨a1, a2, a3, a4, a5, a6, a7, a8⟩ := k
  obtain ⟨p1, p2, p3, p4, p5, p6⟩ := h 0 (by omega)
  rw [Nat.add_zero] at p1 p2 p3 p4
  refine ⟨by rw [p1]; exact a1, a2, a3, by rw [p3]; exact a4, a5, a6, fun j hj => ?_, fun k hk => ?_⟩
  · obtain ⟨q1, q2, q3, q4, q5, q6⟩ := h (1 + j) (by omega)
    obtain ⟨b1, b2, b3, b4, b5⟩ := a7 j hj
    rw [← Nat.add_assoc] at q1 q2
    exact ⟨by rw [p4]; exact b1, by rw [q1]; exact b2, by rw [q2]; exact b3, b4, b5⟩
  · obtain ⟨b1, b2⟩ := a8 k hk
    exact ⟨by rw [(h 1 (by omega)).2.2.2.2.1]; exact b1, by rw [(h 2 (by omega)).2.2.2.2.1]; exact b2⟩
theorem St_k {G : CG} {L L' : Ly} {u u' : Sg} (hG : ∀ a, a < G0 G → L.2 a = 1) (h : frz L L' u u') (k : St G u) : St G u' := by
  obtain ⟨h1, ⟨b, h2, h3, h4, h5, h6⟩, ⟨b', g2, g3, g4, g5, g6⟩, c, k1, k2, k3, k4, k5⟩ := k
  refine ⟨fun k hk => ?_, ⟨b, h2, h3, ?_⟩, ⟨b', g2, g3, ?_⟩, c, k1, k2, ?_⟩
  · obtain ⟨s, q1, q2, q3⟩ := h1 k hk
    exact ⟨s, q1, q2, by rw [(h.2 s (hG s q2)).2.1]; exact q3⟩
  · obtain ⟨-, p1, p2, -, -, -, p6⟩ := h.2 b (hG b h3)
    exact ⟨by rw [p1]; exact h4, by rw [p2]; exact h5, by rw [p6]; exact h6⟩
  · obtain ⟨-, p1, p2, -, -, -, p6⟩ := h.2 b' (hG b' g3)
    exact ⟨by rw [p1]; exact g4, by rw [p2]; exact g5, by rw [p6]; exact g6⟩
  · obtain ⟨-, p1, p2, -, -, -, p6⟩ := h.2 c (hG c k2)
    refine ⟨by rw [p1]; exact k3, by rw [p2]; exact k4, fun k hk => ?_⟩
    obtain ⟨x, q1, q2, q3, q4⟩ := k5 k hk
    obtain ⟨-, r1, -, r3, -⟩ := h.2 x (hG x q2)
    exact ⟨x, by rw [p6]; exact q1, q2, by rw [r1]; exact q3, by rw [r3]; exact q4⟩
theorem R0_ok : ∀ q ∈ R0, ¬ (q.1 = 114 ∧ q.2.1 = 80) ∧ ¬ (q.1 = 3 ∧ q.2.1 = 4) ∧ ∃ t ∈ T0, t.1 = q.1 := by decide
theorem RC_scp {G : CG} {L : Ly} {u u' : Sg} {m : Mu} (h : RC G L u m) (k : scp L u u') : RC G L u' m := by
  obtain ⟨hR, hS, hA, hJ, hW, hE, hP, hK⟩ := h
  have hf := frz_scp k
  have hg := scp_gro k
  have sm : ∀ {a r : Nat}, L.2 a = r → r ∉ SCP → r ≠ 3 → r ≠ 115 → sam u u' a := fun e h1 h2 h3 => scp_sam k (by rw [e]; exact h1) (by rw [e]; exact h2) (by rw [e]; exact h3)
  have aA : ∀ {a r : Nat}, L.2 a = r → r ∉ SCP → zA u' a = zA u a := fun e h1 => (k.2.2.2.2.2 _ (by rw [e]; exact h1)).1
  have i3 : zI u' (L.1 3) = zI u (L.1 3) := funext fun g => (k.2.2.2.2.2 _ (by rw [rC3 hR]; decide)).2 g (fun q => by rw [rC3 hR] at q; exact absurd q.1 (by decide))
  have ml : ∀ {r rb n : Nat} {el : Nat → Nat}, r ∉ SCP → r ≠ 3 → r ≠ 115 → rb ∉ SCP → rb ≠ 3 → rb ≠ 115 → ML G u L r rb n el → ML G u' L r rb n el := by
    intro r rb n el h1 h2 h3 h4 h5 h6 q
    refine ML_k hg (sm q.2.2.1 h1 h2 h3) ?_ q
    by_cases hz : 0 < zL u (L.1 rb)
    · exact sm (q.2.2.2.1 hz) h4 h5 h6
    · obtain ⟨b, e1, e2, -⟩ := hR.2.2.2.2.2.1.2.1
      have : some b = some (L.1 rb) := by rw [← e1]; exact q.2.1.2.1 (by omega)
      cases this
      exact sm (hR.2.2.2.1 _ e2) (by decide) (by decide) (by decide)
  refine ⟨⟨fun q hq => ?_, fun q hq => ?_, ?_, hR.2.2.2.1, ?_, St_k hR.2.2.2.1 hf hR.2.2.2.2.2.1, LF_k hf hR.2.2.2.2.2.2⟩, ?_, ?_, ?_, ?_, ?_, ?_, ?_⟩
  · rw [k.1, k.2.1]; exact hR.1 q hq
  · rw [k.2.2.2.2.1]
    · exact hR.2.1 q hq
    · intro ⟨q1, q2⟩
      obtain ⟨z1, z2, t, z3, z4⟩ := R0_ok q hq
      have e := (hR.1 t z3).2.2.1
      rw [z4] at e
      exact z1 ⟨by rw [← e]; exact q1, q2⟩
    · intro ⟨q1, q2⟩
      obtain ⟨z1, z2, t, z3, z4⟩ := R0_ok q hq
      have e := (hR.1 t z3).2.2.1
      rw [z4] at e
      exact z2 ⟨by rw [← e]; exact q1, q2⟩
  · rw [k.2.2.2.1]; exact hR.2.2.1
  · rw [k.2.2.2.1]; exact hR.2.2.2.2.1
  · unfold RS; rw [i3]; exact hS
  · unfold RA
    rw [aA (rC101 hR) (by decide), aA (rC109 hR) (by decide), aA (rC110 hR) (by decide), aA (rC111 hR) (by decide), aA (rC118 hR) (by decide), aA (rC119 hR) (by decide), aA (rC120 hR) (by decide), aA (rC121 hR) (by decide), aA (rC125 hR) (by decide), aA (rC127 hR) (by decide), aA (rC128 hR) (by decide), aA (rC100 hR) (by decide)]
    exact hA
  · have i5 : ∀ g, ¬ (g = 121 ∨ g = 122) → zI u' (L.1 115) g = zI u (L.1 115) g := fun g hg => (k.2.2.2.2.2 _ (by rw [rC115 hR]; decide)).2 g (fun q => hg q.2)
    unfold RJ
    rw [aA (rC147 hR) (by decide), aA (rC148 hR) (by decide), aA (rC149 hR) (by decide), i5 125 (by decide), i5 127 (by decide), i5 128 (by decide)]
    exact hJ
  · obtain ⟨a1, a2, a3, a4⟩ := hW
    exact ⟨a1, a2, ml (by decide) (by decide) (by decide) (by decide) (by decide) (by decide) a3, fun w h1 h2 => ⟨(a4 w h1 h2).1, WA_k hf (a4 w h1 h2).2⟩⟩
  · obtain ⟨a1, a2, a3, a4⟩ := hE
    refine ⟨a1, a2, ml (by decide) (by decide) (by decide) (by decide) (by decide) (by decide) a3, fun e h1 h2 => ?_⟩
    obtain ⟨b1, b2, b3, b4, b5, l, b6, b7, b8⟩ := a4 e h1 h2
    obtain ⟨p1, p2, p3, p4, p5, p6⟩ := (hf.2 _ b3).2
    refine ⟨b1, b2, b3, by rw [p1]; exact b4, by rw [p4]; exact b5, l, by rw [p4]; exact b6, LF_k hf b7, fun f hf => ⟨KA_k (fun j hj => ?_) (b8 f hf).1, (b8 f hf).2⟩⟩
    have q := (b8 f hf).1
    have hr : L.2 (L.1 (1000 + 64 * e + 8 * f + j)) = 1000 + 64 * e + 8 * f + j := by
      rcases (show j = 0 ∨ j = 1 ∨ j = 2 by omega) with rfl | rfl | rfl
      · exact q.2.2.1
      · exact (q.2.2.2.2.2.2.1 0 (by omega)).2.2.2.2
      · exact (q.2.2.2.2.2.2.1 1 (by omega)).2.2.2.2
    refine sm hr (fun hh => ?_) (by omega) (by omega)
    simp only [SCP, List.mem_cons, List.not_mem_nil, or_false] at hh
    omega
  · obtain ⟨a1, a2, a3, a4⟩ := hP
    refine ⟨a1, a2, ml (by decide) (by decide) (by decide) (by decide) (by decide) (by decide) a3, fun p h1 h2 => ?_⟩
    obtain ⟨b1, b2, b3, b4, b5, b6, b7, b8⟩ := a4 p h1 h2
    have sc : ∀ {a j : Nat}, L.2 a = 5000 + j → sam u u' a := fun e => sm e (fun hh => by
      simp only [SCP, List.mem_cons, List.not_mem_nil, or_false] at hh
      omega) (by omega) (by omega)
    obtain ⟨p1, p2, p3, p4, p5, p6⟩ := sc b3
    refine ⟨by rw [p1]; exact b1, b2, b3, by rw [p3]; exact b4, b5, b6, fun j hj => ?_, fun k hk => ⟨fun j hj => ?_, (b8 k hk).2⟩⟩
    · obtain ⟨c1, c2, c3, c4, c5⟩ := b7 j hj
      have := sc (j := 1 + 8 * p + j) (by omega : L.2 (L.1 (5001 + 8 * p + j)) = _)
      exact ⟨by rw [p4]; exact c1, by rw [this.1]; exact c2, by rw [this.2.1]; exact c3, c4, c5⟩
    · obtain ⟨c1, c2, c3, c4, c5⟩ := b7 j hj
      have := sc (j := 1 + 8 * p + j) (by omega : L.2 (L.1 (5001 + 8 * p + j)) = _)
      rw [this.2.2.2.2.1]; exact (b8 k hk).1 j hj
  · obtain ⟨a1, a2, a3, a4, a9⟩ := hK
    refine ⟨a1, a2, ml (by decide) (by decide) (by decide) (by decide) (by decide) (by decide) a3, fun c h1 h2 => ?_, a9⟩
    obtain ⟨b1, b2, b3, b4, b5, b6, b7, b8, b9, b10, b11, b12, b13, b14, b15, b16, b17, b18, b19, b20⟩ := a4 c h1 h2
    have sc : ∀ {a j : Nat}, L.2 a = 4000 + j → sam u u' a := fun e => sm e (fun hh => by
      simp only [SCP, List.mem_cons, List.not_mem_nil, or_false] at hh
      omega) (by omega) (by omega)
    obtain ⟨p1, p2, p3, p4, p5, p6⟩ := sc b3
    unfold KE
    rw [p1, p3, p4]
    refine ⟨b1, b2, b3, b4, b5, b6, b7, b8, b9, b10, b11, b12, b13, b14, b15, b16, KA_k (fun j hj => ?_) b17, b18, b19, b20⟩
    have hr : L.2 (L.1 (4001 + 8 * c + j)) = 4000 + (1 + 8 * c + j) := by
      rcases (show j = 0 ∨ j = 1 ∨ j = 2 by omega) with rfl | rfl | rfl
      · have := b17.2.2.1; rw [Nat.add_zero]; omega
      · exact (b17.2.2.2.2.2.2.1 0 (by omega)).2.2.2.2.trans (by omega)
      · exact (b17.2.2.2.2.2.2.1 1 (by omega)).2.2.2.2.trans (by omega)
    exact sc hr
