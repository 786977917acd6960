/-! THE LAW'S WORLD: the class's heap and the twin's state side by side -/
def aL (G : CG) : Nat → Prop := fun q => G.2.2.2.1 ≤ q
def aC (G : CG) (G' : MG) : Nat → Prop := fun q => G.2.2.2.1 ≤ q ∧ ¬ aM G' q
theorem bC_toC {G : CG} {G' : MG} {u : Sg} {U : State} {H : Heap} (h : bC G (aL G) u U H) (hM : ∀ a, aM G' a → zT u a = 0 ∧ G.2.2.2.1 ≤ a ∧ a < zN u) : bC G (aC G G') u U H := by
  obtain ⟨h1, h2, h3, ⟨e1, e2, e3, e4, e5, e6⟩, h5⟩ := h
  have sub : ∀ q, aC G G' q → aL G q := fun q hq => hq.1
  exact ⟨h1, fun k q hq => ⟨(h2 k q hq).1.narrow sub, fun h9 => ((h2 k q hq).2 h9).narrow sub⟩, fun a k ha hk => by obtain ⟨cell, g1, g2, g3, g4⟩ := h3 a k ha hk; exact ⟨cell, g1, g2, g3, fun h => g4 (sub a h)⟩, ⟨e1, e2, fun a h1 h2 => ⟨h2, fun hm => h1 (hM a hm).1⟩, fun q hq => ⟨Nat.le_trans e6 hq, fun hm => by have := (hM q hm).2.2; omega⟩, e5, e6⟩, h5⟩
theorem bC_ofC {G : CG} {G' : MG} {u : Sg} {U : State} {H : Heap} (h : bC G (aC G G') u U H) (hS : zS G (aL G) U H) : bC G (aL G) u U H := by
  obtain ⟨h1, h2, h3, ⟨e1, e2, e3, e4, e5, e6⟩, h5⟩ := h
  refine ⟨h1, hS, fun a k ha hk => ?_, ⟨e1, e2, fun a _ h2 => h2, fun q hq => Nat.le_trans e6 hq, e5, e6⟩, h5⟩
  obtain ⟨cell, g1, g2, g3, g4⟩ := h3 a k ha hk
  exact ⟨cell, g1, g2, g3, fun h => g4 (e3 a (by omega) h)⟩
theorem zS_kept {G : CG} {A : Nat → Prop} {U : State} {H H1 : Heap} (h : zS G A U H) (hq : ∀ a : Nat, a < H.size → ¬ A a → H1[a]? = H[a]?) : zS G A U H1 := fun k q h9 => (h k q h9).kept hq
theorem zS_moved {G : CG} {A : Nat → Prop} {u U : State} {H : Heap} (hvm : u.vm.Alike U.vm) (h : zS G A u H) : zS G A U H := fun k q h9 => (h k q h9).moved hvm
/-- the same heap with room for more -/
def setN (u : Sg) (n : Nat) : Sg := (u.1, u.2.1, u.2.2.1, u.2.2.2.1, u.2.2.2.2.1, u.2.2.2.2.2.1, n)
/-- the class's heap when other cells have changed -/
theorem bC_other {G : CG} {u : Sg} {U : State} {H H1 : Heap} (h : bC G (aL G) u U H) (hz : H.size ≤ H1.size) (ho : ∀ a : Nat, a < H.size → (¬ aL G a ∨ zT u a ≠ 0) → H1[a]? = H[a]?) : bC G (aL G) (setN u H1.size) U H1 := by
  obtain ⟨h1, h2, h3, ⟨e1, e2, e3, e4, e5, e6⟩, h5⟩ := h
  refine ⟨h1, zS_kept h2 (fun a ha hn => ho a ha (Or.inl hn)), fun a k ha hk => ?_, ⟨rfl, fun a => ?_, e3, fun q hq => ?_, fun a ha => ?_, ?_⟩, h5⟩
  · obtain ⟨cell, g1, g2, g3, g4⟩ := h3 a k ha hk
    exact ⟨cell, (ho a (Array.getElem?_eq_some_iff.mp g1).1 (Or.inl g4)).trans g1, g2, g3, g4⟩
  · by_cases h0 : zT u a = 0
    · exact ⟨fun ci h8 _ => by rw [show zT (setN u H1.size) a = zT u a from rfl, h0] at h8; omega, fun t8 h8 _ _ => by rw [show zT (setN u H1.size) a = zT u a from rfl, h0] at h8; omega⟩
    · have hlt := e5 a h0
      exact okA_eq (e2 a) (ho a (by rw [← e1]; exact hlt) (Or.inr h0)) rfl rfl rfl rfl rfl rfl
  · exact Nat.le_trans e6 (Nat.le_trans (by rw [e1]; exact hz) hq)
  · have := e5 a ha; exact Nat.lt_of_lt_of_le (by rw [← e1]; exact this) hz
  · exact Nat.le_trans e6 (by rw [e1]; exact hz)
theorem bM_kept {G' : MG} {m : Mu} {U : State} {H H1 : Heap} (h : bM G' m U H) (hq : ∀ a, aM G' a → H1[a]? = H[a]?) : bM G' m U H1 := by
  obtain ⟨h1, h2, h3, h4⟩ := h
  exact ⟨h1, h2.kept (hq _ (Or.inl rfl)), fun k hk => (hq _ (Or.inr ⟨k, hk, rfl⟩)).trans (h3 k hk), h4⟩
/-- the world of the law's loop -/
def bX (G : CG) (G' : MG) (w : Sg × Mu) (U : State) (H : Heap) : Prop := bC G (aL G) w.1 U H ∧ bM G' w.2 U H ∧ ∀ a, aM G' a → zT w.1 a = 0 ∧ G.2.2.2.1 ≤ a ∧ a < zN w.1
theorem bX_mv (G : CG) (G' : MG) : jMv (bX G G') := fun w u U H hvm h => ⟨bC_mv G _ _ u U H hvm h.1, bM_mv G' _ u U H hvm h.2.1, h.2.2⟩
/-- what the law knows at its start: the words, the script -/
def kX (G : CG) (b L : Nat) (xs : Nat → Int32) (s : State) : Prop := kC s ∧ va_X b L xs s s.heap ∧ b < s.heap.size ∧ G.2.2.2.1 = s.heap.size ∧ ∃ (aK aV : Nat) (f : Option Nat), bS (aL G) aK aV f () s s.heap ∧ vk_R RX5 283 sTx aK s
theorem bX_C {G : CG} {G' : MG} {u u1 : Sg} {m : Mu} {s t : State} {H H1 : Heap} (h : bX G G' (u, m) s H) (hvm : s.vm.Alike t.vm) (h1 : bC G (aC G G') u1 t H1) (hF : va_S (aC G G') H H1 []) : bX G G' (u1, m) s H1 := by
  obtain ⟨g1, g2, g3⟩ := h
  have h1 := bC_mv G _ _ t s H1 hvm.symm h1
  have hz : ∀ a, aM G' a → a < H.size := fun a ha => by have := (g3 a ha).2.2; have e := g1.2.2.2.1.1; omega
  refine ⟨bC_ofC h1 (zS_kept g1.2.1 (fun a ha hn => hF.2.1 a ha (fun h => hn h.1))), bM_kept g2 (fun a ha => hF.2.1 a (hz a ha) (fun h => h.2 ha)), fun a ha => ⟨?_, (g3 a ha).2.1, ?_⟩⟩
  · by_cases h0 : zT u1 a = 0
    · exact h0
    · exact absurd ha (h1.2.2.2.1.2.2.1 a h0 (g3 a ha).2.1).2
  · have e := h1.2.2.2.1.1
    have := hF.1
    have := hz a ha
    show a < zN u1
    omega
theorem bX_T {G : CG} {G' : MG} {u : Sg} {m m1 : Mu} {s t : State} {H H1 : Heap} (h : bX G G' (u, m) s H) (hvm : s.vm.Alike t.vm) (h1 : bM G' m1 t H1) (hF : va_S (aM G') H H1 []) (hz : H1.size = H.size) : bX G G' (u, m1) s H1 := by
  obtain ⟨g1, g2, g3⟩ := h
  have h1 := bM_mv G' _ t s H1 hvm.symm h1
  have e := g1.2.2.2.1.1
  have hb := bC_other (H1 := H1) g1 (by omega) (fun a ha hn => hF.2.1 a ha (fun hm => by
    obtain ⟨q1, q2, q3⟩ := g3 a hm
    rcases hn with h | h
    · exact h q2
    · exact h q1))
  have es : setN u H1.size = u := by
    unfold setN
    rw [hz, ← e]
    rfl
  rw [es] at hb
  exact ⟨hb, h1, g3⟩
section LCall
variable {p : Program} {l : Launch} {e : Env} {R : Room} {s : State} {m : MethodId} {args : Array Value} {below : List Frame} {meth : Method} {c : Code} {H : Heap} {locs : List Loc} {cells slots : Nat} {Q : State → Prop}
variable {pc : Nat} {ls : Array Slot} {rest st0 : List Value} {a : Array Value} {A A0 : Nat → Prop} {H0 : Heap} {mc ms : Nat}
theorem jw_callR {Ω : Type} {B : Ω → State → Heap → Prop} {o1 : Option PV} {w1 : Ω} {E : Heap → Heap → Prop} {Qa : State → Outcome → State → Prop} (hr : va_Run p l e R s m args below meth c H locs cells slots mc ms (F0 m pc ls st0) rest Qa A) (hQ : ∀ st oc t, Qa st oc t → kQ o1 w1 B A a st oc t ∧ E st.heap t.heap) (hS : va_S A0 H0 H locs) (hA : ∀ q, A q → A0 q)
    (kk : ∀ (t : State) (H1 : Heap) (locs1 : List Loc), t.heap = H1 → s.vm.Alike t.vm → B w1 t H1 → va_S A H H1 [] → E H H1 → va_S A0 H0 H1 locs1 → W p l e R s m args below meth c H1 locs1 (cells + mc) (slots + ms) Q (F0 m (pc + 3) ls ((o1.map mv).toList ++ rest))) : W p l e R s m args below meth c H locs cells slots Q (F0 m pc ls st0) := by
  intro T hT X
  obtain ⟨v, st₀, t, T', L, h0, X', hL, e1, e2, hQ1, st⟩ := hr T hT X
  obtain ⟨⟨⟨hv, hb⟩, hz, hk⟩, hE⟩ := hQ _ _ _ hQ1
  cases hv
  rw [h0] at hz hk hE
  obtain ⟨t2, a1, b1⟩ := kk t T'.heap (locs ++ L) e1.symm (by rw [← e2]; exact X'.warmed.alike) (by rw [e1]; exact hb)
    ⟨by rw [e1]; exact hz, fun q h1 h2 => by rw [e1]; exact hk q h1 h2, fun _ h => by cases h⟩ (by rw [e1]; exact hE)
    ⟨Nat.le_trans hS.1 (by rw [e1]; exact hz), fun q h1 h2 => by rw [e1, hk q (Nat.lt_of_lt_of_le h1 hS.1) (fun h => h2 (hA q h))]; exact hS.2.1 q h1 h2, fun q hq => by
      rcases List.mem_append.mp hq with h | h
      · exact hS.2.2 q h
      · exact hA _ (hL q h)⟩ T' rfl X'
  exact ⟨t2, st t2 a1, b1⟩
end LCall
section LRows
variable {G : CG} {G' : MG} {b L : Nat} {xs : Nat → Int32} {l : Launch} {D : MD} {a : List PV} {Q : List Frame → State → State → Prop} {u u1 : Sg} {m m1 : Mu} {mc ms ce sl pc : Nat} {lv lv' : List (Nat × PV)}
/-- a call of the class -/
theorem l_callC {y : MethodName} {Dy : MD} {r idx n mc1 ms1 : Nat} {o1 : Option PV} (As rest : List PV) (st : List PV) (hM : JM kC (bC G (aC G G')) (aC G G') l y Dy (pR (some r) :: As) u o1 u1 mc1 ms1) (hq : jwV D.1 Dy idx y) (hdv : jdV y Dy.1 n) (hn : As.length = n) (hrm : jrm D Dy) (hrc : jrecv (bC G (aC G G')) u r Dy.1)
    (hst : st = As.reverse ++ pR (some r) :: rest) (h8 : (rest.map jcat).sum ≤ 8) (hd : decode D.2.1 pc = .ok (.invokevirtual idx, 3)) (hcs : ce + mc1 ≤ mc ∧ sl + ms1 ≤ ms) (k : JW (kX G b L xs) (bX G G') (aL G) l D a Q mc ms (u1, m) (ce + mc1) (sl + ms1) (pc + 3) lv (o1.toList ++ rest)) : JW (kX G b L xs) (bX G G') (aL G) l D a Q mc ms (u, m) ce sl pc lv st := by
  intro p e s m9 below meth c H locs ls X hr hlk hn9 hK hB hS hl
  subst hst
  obtain ⟨q1, q2, q3, q4, q5⟩ := hq
  have hB1 := bC_toC hB.1 hB.2.2
  refine jw_callR (o1 := o1) (w1 := u1) (B := bC G (aC G G')) (E := fun _ _ => True) (mc := mc1) (ms := ms1) (rest := rest.map mv) (a := ((pR (some r) :: As).map mv).toArray) (va_runV (As := As.map mv) (rest := rest.map mv) (b := r) X hM (cwV n X.2.2.2.2 (lw_V q1 q2 q3 q4 q5) rfl rfl rfl hdv hrm) ⟨jblind kC_v (bC_mv G (aC G G')) (pR (some r) :: As), hrc s H hB1, fun U hU hW => ⟨rfl, kC_v.1 s U hW hK.1, by rw [hU]; exact bC_mv G (aC G G') u s U H hW.alike hB1⟩⟩ rfl (by rw [List.length_map]; exact hn) hl.1 (by simp [mv, va_rf]) (lv_room (by rw [jcat_sum]; exact h8)) hd hcs) (fun _ _ _ h => ⟨h, trivial⟩) hS (fun q hq => hq.1) ?_
  intro t H1 locs1 ht hvm hB1 hF _ hS1
  have h := k p e s m9 below meth c H1 locs1 ls X hr hlk hn9 hK (bX_C hB hvm hB1 hF) hS1 hl
  rw [map_toList]
  exact h
/-- a call of the class that catches a Fault -/
theorem l_callH {y : MethodName} {Dy : MD} {r idx n mc1 ms1 : Nat} {hh : List (Nat × Nat × Nat × Nat)} {o1 : Option PV} (As rest : List PV) (st : List PV) (hM : JMH G (aC G G') l y Dy hh (pR (some r) :: As) u o1 u1 mc1 ms1) (hq : Cond.methodLink D.1 idx y ∈ lw_all ∧ Cond.instanceMethod y ∈ lw_all ∧ Cond.selects Dy.1 y y ∈ lw_all ∧ Cond.initialized Dy.1 ∈ lw_all ∧ Cond.codeWith y Dy.2.1 Dy.2.2.1 Dy.2.2.2.1 hh ∈ lw_all) (hdv : jdV y Dy.1 n) (hn : As.length = n) (hrm : jrm D Dy) (hrc : jrecv (bC G (aC G G')) u r Dy.1)
    (hst : st = As.reverse ++ pR (some r) :: rest) (h8 : (rest.map jcat).sum ≤ 8) (hd : decode D.2.1 pc = .ok (.invokevirtual idx, 3)) (hcs : ce + mc1 ≤ mc ∧ sl + ms1 ≤ ms) (k : JW (kX G b L xs) (bX G G') (aL G) l D a Q mc ms (u1, m) (ce + mc1) (sl + ms1) (pc + 3) lv (o1.toList ++ rest)) : JW (kX G b L xs) (bX G G') (aL G) l D a Q mc ms (u, m) ce sl pc lv st := by
  intro p e s m9 below meth c H locs ls X hr hlk hn9 hK hB hS hl
  subst hst
  obtain ⟨q1, q2, q3, q4, q5⟩ := hq
  have hB1 := bC_toC hB.1 hB.2.2
  have hG : GoodIn lw_all (wsV D.1 idx Dy.1 y (Cond.codeWith y Dy.2.1 Dy.2.2.1 Dy.2.2.2.1 hh :: lw_all)) := by
    intro w hw
    unfold wsV at hw
    have hm : w ∈ lw_all := by
      rcases List.mem_append.mp hw with h | h
      · simp only [List.mem_cons, List.mem_nil_iff, or_false] at h
        rcases h with h | h | h | h <;> subst h <;> assumption
      · rcases List.mem_cons.mp h with h | h
        · subst h; exact q5
        · exact h
    exact ⟨hm, good_of_word (List.mem_filter.mp hm).2⟩
  refine jw_callR (o1 := o1) (w1 := u1) (B := bC G (aC G G')) (E := fun _ _ => True) (mc := mc1) (ms := ms1) (rest := rest.map mv) (a := ((pR (some r) :: As).map mv).toArray) (tw_toRun (vx_runVX (As := As.map mv) (rest := rest.map mv) (b := r) X hM (vx_cwVW n X.2.2.2.2 hG rfl rfl rfl hdv hrm) ⟨jblind kC_v (bC_mv G (aC G G')) (pR (some r) :: As), hrc s H hB1, fun U hU hW => ⟨rfl, kC_v.1 s U hW hK.1, by rw [hU]; exact bC_mv G (aC G G') u s U H hW.alike hB1⟩⟩ rfl (by rw [List.length_map]; exact hn) hl.1 (by simp [mv, va_rf]) (lv_room (by rw [jcat_sum]; exact h8)) hd hcs)) (fun _ _ _ h => ⟨h, trivial⟩) hS (fun q hq => hq.1) ?_
  intro t H1 locs1 ht hvm hB1 hF _ hS1
  have h := k p e s m9 below meth c H1 locs1 ls X hr hlk hn9 hK (bX_C hB hvm hB1 hF) hS1 hl
  rw [map_toList]
  exact h
/-- the twin makes no cells -/
theorem met_size {y : MethodName} {Dy : MD} {As : List PV} {o1 : Option PV} (hM : JM kT (bM G') (aM G') l y Dy As m o1 m1 0 0) : Met l y (ws_ y Dy.2.1 Dy.2.2.1 Dy.2.2.2.1) (jroom Dy 0 0) (va_Pc (As.map mv) (fun U => kT U ∧ bM G' m U U.heap)) (fun a st oc t => kQ o1 m1 (bM G') (aM G') a st oc t ∧ t.heap.size = st.heap.size) 0 0 (aM G') := by
  intro p e ha hc hk s m9 args below hf happ hP hK
  obtain ⟨n, o, h1, h2, h3, h4, LL, hF, hL⟩ := hM p e ha hc hk s m9 args below hf happ hP hK
  refine ⟨n, o, h1, h2, h3, ⟨h4, ?_⟩, LL, hF, hL⟩
  obtain ⟨-, g2, g3, -⟩ := hF.2.2
  exact Nat.le_antisymm g3 g2
/-- a call of the twin -/
theorem l_callT {y : MethodName} {Dy : MD} {idx n : Nat} {o1 : Option PV} (As rest : List PV) (st : List PV) (hM : JM kT (bM G') (aM G') l y Dy (pR (some G'.1) :: As) m o1 m1 0 0) (hq : jwV D.1 Dy idx y) (hdv : jdV y Dy.1 n) (hn : As.length = n) (hrm : jrm D Dy) (hrc : jrecv (bM G') m G'.1 Dy.1)
    (hst : st = As.reverse ++ pR (some G'.1) :: rest) (h8 : (rest.map jcat).sum ≤ 8) (hd : decode D.2.1 pc = .ok (.invokevirtual idx, 3)) (hcs : ce ≤ mc ∧ sl ≤ ms) (k : JW (kX G b L xs) (bX G G') (aL G) l D a Q mc ms (u, m1) ce sl (pc + 3) lv (o1.toList ++ rest)) : JW (kX G b L xs) (bX G G') (aL G) l D a Q mc ms (u, m) ce sl pc lv st := by
  intro p e s m9 below meth c H locs ls X hr hlk hn9 hK hB hS hl
  subst hst
  obtain ⟨q1, q2, q3, q4, q5⟩ := hq
  have hB1 := hB.2.1
  refine jw_callR (o1 := o1) (w1 := m1) (B := bM G') (E := fun H H1 => H1.size = H.size) (mc := 0) (ms := 0) (rest := rest.map mv) (a := ((pR (some G'.1) :: As).map mv).toArray) (va_runV (As := As.map mv) (rest := rest.map mv) (b := G'.1) X (met_size hM) (cwV n X.2.2.2.2 (lw_V q1 q2 q3 q4 q5) rfl rfl rfl hdv hrm) ⟨jblind kT_v (bM_mv G') (pR (some G'.1) :: As), hrc s H hB1, fun U hU hW => ⟨rfl, trivial, by rw [hU]; exact bM_mv G' m s U H hW.alike hB1⟩⟩ rfl (by rw [List.length_map]; exact hn) hl.1 (by simp [mv, va_rf]) (lv_room (by rw [jcat_sum]; exact h8)) hd hcs) (fun _ _ _ h => h) hS (fun q hq => by
      exact (hB.2.2 q hq).2.1) ?_
  intro t H1 locs1 ht hvm hB1 hF hE hS1
  have h := k p e s m9 below meth c H1 locs1 ls X hr hlk hn9 hK (bX_T hB hvm hB1 hF hE) hS1 hl
  rw [map_toList]
  exact h
/-- the script's place k -/
def xI (xs : Nat → Int32) (k : Nat) : Int := (xs k).toInt
theorem xI_w (xs : Nat → Int32) (k : Nat) : w32 (xI xs k) = xI xs k := by
  unfold xI
  exact w32_id (Int32.le_toInt _) (Int32.toInt_lt _)
theorem xI_j (xs : Nat → Int32) (k : Nat) : jI (xI xs k) = xs k := by
  unfold xI jI
  exact Int32.ofInt_toInt _
theorem l_xld {Ω : Type} {B : Ω → State → Heap → Prop} {w : Ω} {st : List PV} {i : Int} (k : Nat) (hk : k < L) (hi : w32 i = k) (hd : decode D.2.1 pc = .ok (.iaload, 1)) (kk : JW (kX G b L xs) B (aL G) l D a Q mc ms w ce sl (pc + 1) lv (pI (xI xs k) :: st)) : JW (kX G b L xs) B (aL G) l D a Q mc ms w ce sl pc lv (pI i :: pR (some b) :: st) := by
  intro p e s m9 below meth c H locs ls X hr hlk hn9 hK hB hS hl
  have h := kk p e s m9 below meth c H locs ls X hr hlk hn9 hK hB hS hl
  have e1 : (jI i).toNatClampNeg = k := by rw [clamp_I, hi]; omega
  refine va_sld X.1 X.2.1 hK.2.1 hK.2.2.1 (by have h9 := hK.2.2.2.1; have h8 := hK.2.2.1; unfold aL; omega) hS (i := jI i) (in_I ⟨by omega, by omega⟩) hd ?_
  rw [e1, ← xI_j xs k]
  exact h
theorem l_xlen {Ω : Type} {B : Ω → State → Heap → Prop} {w : Ω} {st : List PV} (hd : decode D.2.1 pc = .ok (.arraylength, 1)) (kk : JW (kX G b L xs) B (aL G) l D a Q mc ms w ce sl (pc + 1) lv (pI L :: st)) : JW (kX G b L xs) B (aL G) l D a Q mc ms w ce sl pc lv (pR (some b) :: st) := by
  intro p e s m9 below meth c H locs ls X hr hlk hn9 hK hB hS hl
  have h := kk p e s m9 below meth c H locs ls X hr hlk hn9 hK hB hS hl
  exact va_slen X.1 X.2.1 hK.2.1 hK.2.2.1 (by have h9 := hK.2.2.2.1; have h8 := hK.2.2.1; unfold aL; omega) hS hd h
end LRows
