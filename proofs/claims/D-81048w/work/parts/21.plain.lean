/-! CALLS that change what lies plain: what they keep -/
def SC2 : List Nat := [3, 101, 109, 110, 111, 118, 119, 120, 121, 125, 127, 128, 114, 116, 117, 124, 129, 130, 140, 141, 142, 143, 144, 145, 160, 161, 162, 163, 164, 165, 166, 167, 170, 171, 172, 173, 174, 175, 176, 177]
def sc2 (L : Ly) (u u' : Sg) : Prop := zT u' = zT u ∧ zL u' = zL u ∧ zB u' = zB u ∧ zN u' = zN u ∧ (∀ a g, ¬ (L.2 a = 114 ∧ g = 80) → ¬ (L.2 a = 3 ∧ g = 4) → zR u' a g = zR u a g) ∧ (∀ a, L.2 a ∉ SC2 → zA u' a = zA u a ∧ ∀ g, ¬ (L.2 a = 115 ∧ (g = 121 ∨ g = 122)) → zI u' a g = zI u a g)
theorem sc2_rf {L : Ly} {u : Sg} : sc2 L u u := ⟨rfl, rfl, rfl, rfl, fun _ _ _ _ => rfl, fun _ _ => ⟨rfl, fun _ _ => rfl⟩⟩
theorem sc2_tr {L : Ly} {u v w : Sg} (h : sc2 L u v) (k : sc2 L v w) : sc2 L u w :=
  ⟨k.1.trans h.1, k.2.1.trans h.2.1, k.2.2.1.trans h.2.2.1, k.2.2.2.1.trans h.2.2.2.1, fun a g h1 h2 => (k.2.2.2.2.1 a g h1 h2).trans (h.2.2.2.2.1 a g h1 h2), fun a ha => ⟨(k.2.2.2.2.2 a ha).1.trans (h.2.2.2.2.2 a ha).1, fun g hg => ((k.2.2.2.2.2 a ha).2 g hg).trans ((h.2.2.2.2.2 a ha).2 g hg)⟩⟩
theorem sc2_I {L : Ly} {u v : Sg} {a g : Nat} {x : Int} (h : sc2 L u v) (ha : L.2 a ∈ SC2 ∨ (L.2 a = 115 ∧ (g = 121 ∨ g = 122))) : sc2 L u (zsI v a g x) :=
  ⟨h.1, h.2.1, h.2.2.1, h.2.2.2.1, h.2.2.2.2.1, fun b hb => ⟨(h.2.2.2.2.2 b hb).1, fun j hj => by
    rw [zsI_I, if_neg (fun q => ?_)]
    · exact (h.2.2.2.2.2 b hb).2 j hj
    · obtain ⟨q1, q2⟩ := q
      rw [q1, q2] at hj
      rw [q1] at hb
      rcases ha with ha | ha
      · exact hb ha
      · exact hj ha⟩⟩
theorem sc2_A {L : Ly} {u v : Sg} {a g : Nat} {x : Int} (h : sc2 L u v) (ha : L.2 a ∈ SC2) : sc2 L u (zsA v a g x) :=
  ⟨h.1, h.2.1, h.2.2.1, h.2.2.2.1, h.2.2.2.2.1, fun b hb => ⟨by
    rw [← (h.2.2.2.2.2 b hb).1]
    funext j
    rw [zsA_A, if_neg (fun q => hb (by rw [q.1]; exact ha))], (h.2.2.2.2.2 b hb).2⟩⟩
theorem sc2_R {L : Ly} {u v : Sg} {a g : Nat} {x : Option Nat} (h : sc2 L u v) (ha : (L.2 a = 114 ∧ g = 80) ∨ (L.2 a = 3 ∧ g = 4)) : sc2 L u (zsR v a g x) :=
  ⟨h.1, h.2.1, h.2.2.1, h.2.2.2.1, fun b j h1 h2 => by
    rw [zsR_R, if_neg (fun q => ?_)]
    · exact h.2.2.2.2.1 b j h1 h2
    · rw [q.1, q.2] at h1 h2
      rcases ha with ha | ha
      · exact h1 ha
      · exact h2 ha, h.2.2.2.2.2⟩
/-- a cell of another role is as it was -/
theorem sc2_sam {L : Ly} {u u' : Sg} (h : sc2 L u u') {a : Nat} (h1 : L.2 a ∉ SC2) (h3 : L.2 a ≠ 3) (h5 : L.2 a ≠ 115) : sam u u' a := by
  have h4 : L.2 a ≠ 114 := fun q => h1 (by rw [q]; decide)
  exact ⟨by rw [h.1], by rw [h.2.1], funext fun g => (h.2.2.2.2.2 a h1).2 g (fun q => h5 q.1), funext fun g => h.2.2.2.2.1 a g (fun q => h4 q.1) (fun q => h3 q.1), (h.2.2.2.2.2 a h1).1, by rw [h.2.2.1]⟩
theorem sc2_gro {L : Ly} {u u' : Sg} (h : sc2 L u u') : gro u u' := ⟨by rw [h.2.2.2.1]; exact Nat.le_refl _, fun x _ => ⟨by rw [h.1], by rw [h.2.1]⟩⟩
theorem frz_sc2 {L : Ly} {u u' : Sg} (h : sc2 L u u') : frz L L u u' := ⟨sc2_gro h, fun a ha => ⟨ha, sc2_sam h (by rw [ha]; decide) (by rw [ha]; decide) (by rw [ha]; decide)⟩⟩
/-- all but the numbers and arrays that lie plain -/
theorem RC_rest {G : CG} {L : Ly} {u u' : Sg} {m : Mu} (hR : Rt G u L) (hJ : RJ L u m) (hW : RW G L u m) (hE : RE G L u m) (hP : RP G L u m) (hK : RK G L u m) (k : sc2 L u u') (hS : RS L u' m) (hA : RA L u' m) : RC G L u' m := by
  have hf := frz_sc2 k
  have hg := sc2_gro k
  have sm : ∀ {a r : Nat}, L.2 a = r → r ∉ SC2 → r ≠ 3 → r ≠ 115 → sam u u' a := fun e h1 h2 h3 => sc2_sam k (by rw [e]; exact h1) (by rw [e]; exact h2) (by rw [e]; exact h3)
  have aA : ∀ {a r : Nat}, L.2 a = r → r ∉ SC2 → zA u' a = zA u a := fun e h1 => (k.2.2.2.2.2 _ (by rw [e]; exact h1)).1
  have ml : ∀ {r rb n : Nat} {el : Nat → Nat}, r ∉ SC2 → r ≠ 3 → r ≠ 115 → rb ∉ SC2 → rb ≠ 3 → rb ≠ 115 → ML G u L r rb n el → ML G u' L r rb n el := by
    intro r rb n el h1 h2 h3 h4 h5 h6 q
    refine ML_k hg (sm q.2.2.1 h1 h2 h3) ?_ q
    by_cases hz : 0 < zL u (L.1 rb)
    · exact sm (q.2.2.2.1 hz) h4 h5 h6
    · obtain ⟨b, e1, e2, -⟩ := hR.2.2.2.2.2.1.2.1
      have : some b = some (L.1 rb) := by rw [← e1]; exact q.2.1.2.1 (by omega)
      cases this
      exact sm (hR.2.2.2.1 _ e2) (by decide) (by decide) (by decide)
  refine ⟨⟨fun q hq => ?_, fun q hq => ?_, ?_, hR.2.2.2.1, ?_, St_k hR.2.2.2.1 hf hR.2.2.2.2.2.1, LF_k hf hR.2.2.2.2.2.2⟩, hS, hA, ?_, ?_, ?_, ?_, ?_⟩
  · rw [k.1, k.2.1]; exact hR.1 q hq
  · rw [k.2.2.2.2.1]
    · exact hR.2.1 q hq
    · intro ⟨q1, q2⟩
      obtain ⟨z1, z2, t, z3, z4⟩ := R0_ok q hq
      have e := (hR.1 t z3).2.2.1
      rw [z4] at e
      exact z1 ⟨by rw [← e]; exact q1, q2⟩
    · intro ⟨q1, q2⟩
      obtain ⟨z1, z2, t, z3, z4⟩ := R0_ok q hq
      have e := (hR.1 t z3).2.2.1
      rw [z4] at e
      exact z2 ⟨by rw [← e]; exact q1, q2⟩
  · rw [k.2.2.2.1]; exact hR.2.2.1
  · rw [k.2.2.2.1]; exact hR.2.2.2.2.1
  · have i5 : ∀ g, ¬ (g = 121 ∨ g = 122) → zI u' (L.1 115) g = zI u (L.1 115) g := fun g hg => (k.2.2.2.2.2 _ (by rw [rC115 hR]; decide)).2 g (fun q => hg q.2)
    unfold RJ
    rw [aA (rC147 hR) (by decide), aA (rC148 hR) (by decide), aA (rC149 hR) (by decide), i5 125 (by decide), i5 127 (by decide), i5 128 (by decide)]
    exact hJ
  · obtain ⟨a1, a2, a3, a4⟩ := hW
    exact ⟨a1, a2, ml (by decide) (by decide) (by decide) (by decide) (by decide) (by decide) a3, fun w h1 h2 => ⟨(a4 w h1 h2).1, WA_k hf (a4 w h1 h2).2⟩⟩
  · obtain ⟨a1, a2, a3, a4⟩ := hE
    refine ⟨a1, a2, ml (by decide) (by decide) (by decide) (by decide) (by decide) (by decide) a3, fun e h1 h2 => ?_⟩
    obtain ⟨b1, b2, b3, b4, b5, l, b6, b7, b8⟩ := a4 e h1 h2
    obtain ⟨p1, p2, p3, p4, p5, p6⟩ := (hf.2 _ b3).2
    refine ⟨b1, b2, b3, by rw [p1]; exact b4, by rw [p4]; exact b5, l, by rw [p4]; exact b6, LF_k hf b7, fun f hf => ⟨KA_k (fun j hj => ?_) (b8 f hf).1, (b8 f hf).2⟩⟩
    have q := (b8 f hf).1
    have hr : L.2 (L.1 (1000 + 64 * e + 8 * f + j)) = 1000 + 64 * e + 8 * f + j := by
      rcases (show j = 0 ∨ j = 1 ∨ j = 2 by omega) with rfl | rfl | rfl
      · exact q.2.2.1
      · exact (q.2.2.2.2.2.2.1 0 (by omega)).2.2.2.2
      · exact (q.2.2.2.2.2.2.1 1 (by omega)).2.2.2.2
    refine sm hr (fun hh => ?_) (by omega) (by omega)
    simp only [SC2, List.mem_cons, List.not_mem_nil, or_false] at hh
    omega
  · obtain ⟨a1, a2, a3, a4⟩ := hP
    refine ⟨a1, a2, ml (by decide) (by decide) (by decide) (by decide) (by decide) (by decide) a3, fun p h1 h2 => ?_⟩
    obtain ⟨b1, b2, b3, b4, b5, b6, b7, b8⟩ := a4 p h1 h2
    have sc : ∀ {a j : Nat}, L.2 a = 5000 + j → sam u u' a := fun e => sm e (fun hh => by
      simp only [SC2, List.mem_cons, List.not_mem_nil, or_false] at hh
      omega) (by omega) (by omega)
    obtain ⟨p1, p2, p3, p4, p5, p6⟩ := sc b3
    refine ⟨by rw [p1]; exact b1, b2, b3, by rw [p3]; exact b4, b5, b6, fun j hj => ?_, fun k hk => ⟨fun j hj => ?_, (b8 k hk).2⟩⟩
    · obtain ⟨c1, c2, c3, c4, c5⟩ := b7 j hj
      have := sc (j := 1 + 8 * p + j) (by omega : L.2 (L.1 (5001 + 8 * p + j)) = _)
      exact ⟨by rw [p4]; exact c1, by rw [this.1]; exact c2, by rw [this.2.1]; exact c3, c4, c5⟩
    · obtain ⟨c1, c2, c3, c4, c5⟩ := b7 j hj
      have := sc (j := 1 + 8 * p + j) (by omega : L.2 (L.1 (5001 + 8 * p + j)) = _)
      rw [this.2.2.2.2.1]; exact (b8 k hk).1 j hj
  · obtain ⟨a1, a2, a3, a4, a9⟩ := hK
    refine ⟨a1, a2, ml (by decide) (by decide) (by decide) (by decide) (by decide) (by decide) a3, fun c h1 h2 => ?_, a9⟩
    obtain ⟨b1, b2, b3, b4, b5, b6, b7, b8, b9, b10, b11, b12, b13, b14, b15, b16, b17, b18, b19, b20⟩ := a4 c h1 h2
    have sc : ∀ {a j : Nat}, L.2 a = 4000 + j → sam u u' a := fun e => sm e (fun hh => by
      simp only [SC2, List.mem_cons, List.not_mem_nil, or_false] at hh
      omega) (by omega) (by omega)
    obtain ⟨p1, p2, p3, p4, p5, p6⟩ := sc b3
    unfold KE
    rw [p1, p3, p4]
    refine ⟨b1, b2, b3, b4, b5, b6, b7, b8, b9, b10, b11, b12, b13, b14, b15, b16, KA_k (fun j hj => ?_) b17, b18, b19, b20⟩
    have hr : L.2 (L.1 (4001 + 8 * c + j)) = 4000 + (1 + 8 * c + j) := by
      rcases (show j = 0 ∨ j = 1 ∨ j = 2 by omega) with rfl | rfl | rfl
      · have := b17.2.2.1; rw [Nat.add_zero]; omega
      · exact (b17.2.2.2.2.2.2.1 0 (by omega)).2.2.2.2.trans (by omega)
      · exact (b17.2.2.2.2.2.2.1 1 (by omega)).2.2.2.2.trans (by omega)
    exact sc hr
/-- the twin's side of it -/
def MS2 : List Nat := [2, 10, 97, 101, 102, 111, 115] ++ MS0
def MA2 : List Nat := [1, 98, 99, 100, 103, 104, 105, 106, 109, 110, 112] ++ MA0
theorem RC_pl {G : CG} {L : Ly} {u u' : Sg} {m m' : Mu} (h : RC G L u m) (k : sc2 L u u') (q : mfr MS2 MA2 m m') (hS : RS L u' m') (hA : RA L u' m') : RC G L u' m' := by
  -- first the twin moves, with the plain parts set aside
  obtain ⟨hR, hS0, hA0, hJ, hW, hE, hP, hK⟩ := h
  have s : ∀ j, j ∈ [11, 68, 70, 71, 81, 87] → m'.1 j = m.1 j := fun j hj => q.1 j (by revert hj; revert j; decide)
  have t : ∀ j, j ∈ [0, 66, 67, 69, 72, 73, 74, 75, 82, 83, 84, 85, 86, 88, 89, 90, 91, 92, 93, 94, 107, 108] → m'.2 j = m.2 j := fun j hj => q.2 j (by revert hj; revert j; decide)
  have z : ∀ w, slc m' w = slc m w := fun w => slc_of (fun j h1 h2 => q.2 j (fun hh => by
    simp only [MA2, MA0, List.cons_append, List.nil_append, List.mem_cons, List.not_mem_nil, or_false] at hh
    omega))
  have hJ' : RJ L u m' := by
    unfold RJ
    rw [s 68 (by decide), s 70 (by decide), t 66 (by decide), t 67 (by decide), t 69 (by decide)]
    exact hJ
  have hW' : RW G L u m' := by
    unfold RW
    rw [s 11 (by decide)]
    exact ⟨hW.1, hW.2.1, hW.2.2.1, fun w q1 q2 => by rw [z]; exact hW.2.2.2 w q1 q2⟩
  have hE' : RE G L u m' := by
    unfold RE EE
    rw [s 71 (by decide), s 11 (by decide), t 72 (by decide), t 73 (by decide), t 74 (by decide), t 75 (by decide)]
    refine ⟨hE.1, hE.2.1, hE.2.2.1, fun e q1 q2 => ?_⟩
    rw [z]
    exact hE.2.2.2 e q1 q2
  have hP' : RP G L u m' := by
    unfold RP PE
    rw [s 81 (by decide), s 11 (by decide), t 82 (by decide), t 84 (by decide), t 85 (by decide), t 86 (by decide), t 83 (by decide)]
    refine ⟨hP.1, hP.2.1, hP.2.2.1, fun p q1 q2 => ?_⟩
    obtain ⟨b1, b2, b3, b4, b5, b6, b7, b8⟩ := hP.2.2.2 p q1 q2
    refine ⟨b1, b2, b3, b4, b5, b6, b7, fun k hk => ⟨fun j hj => ?_, (b8 k hk).2⟩⟩
    have e : m'.2 (83 + j) = m.2 (83 + j) := by
      rcases (show j = 0 ∨ j = 1 ∨ j = 2 ∨ j = 3 by omega) with rfl | rfl | rfl | rfl
      · exact t 83 (by decide)
      · exact t 84 (by decide)
      · exact t 85 (by decide)
      · exact t 86 (by decide)
    rw [e]
    exact (b8 k hk).1 j hj
  have hK' : RK G L u m' := by
    unfold RK KE
    rw [s 87 (by decide), s 81 (by decide), s 71 (by decide), t 88 (by decide), t 89 (by decide), t 90 (by decide), t 91 (by decide), t 92 (by decide), t 93 (by decide), t 94 (by decide), t 107 (by decide), t 108 (by decide)]
    exact hK
  exact RC_rest hR hJ' hW' hE' hP' hK' k hS hA
