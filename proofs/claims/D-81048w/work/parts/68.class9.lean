/-! methods that may throw a Fault: the answer is the thrown address or what is returned -/
abbrev faultN : String := RX8
def tQ (o : Nat ⊕ Option PV) (w' : Sg) (G : CG) (A : Nat → Prop) : Array Value → State → Outcome → State → Prop := fun a st oc t => ∃ v, o = .inr v ∧ kQ v w' (bC G A) A a st oc t
def tX (o : Nat ⊕ Option PV) (w' : Sg) (G : CG) (A : Nat → Prop) : String → Addr → State → State → Prop := fun E q st t => E = faultN ∧ o = .inl q ∧ bC G A w' t t.heap ∧ va_F A st t
/-- the frame's method is y -/
def tP (y : MethodName) (s : State) : Prop := ∀ (m : MethodId) (ar : Array Value) (bl : List Frame), s.frames = .invoking m ar :: bl → s.methodNamed? y = some m
def tQQ (y : MethodName) (G : CG) (A : Nat → Prop) (a : List PV) (o : Nat ⊕ Option PV) (w' : Sg) (mc ms : Nat) : List Frame → State → State → Prop := fun below s t => tP y s → vx_MQ below (tQ o w' G A) (tX o w' G A) (a.map mv).toArray s mc ms A t
def JMT (G : CG) (A : Nat → Prop) (l : Launch) (y : MethodName) (D : MD) (a : List PV) (w : Sg) (o : Nat ⊕ Option PV) (w' : Sg) (mc ms : Nat) : Prop :=
  vx_Met l y (ws_ y D.2.1 D.2.2.1 D.2.2.2.1) (jroom D mc ms) (va_Pc (a.map mv) (fun U => kC U ∧ bC G A w U U.heap)) (tQ o w' G A) (tX o w' G A) mc ms A
section TLeaf
variable {G : CG} {A : Nat → Prop} {l : Launch} {y : MethodName} {D : MD} {a : List PV} {w w' : Sg} {mc ms ce sl pc : Nat} {lv : List (Nat × PV)} {st : List PV}
theorem t_ofret {v : Option PV} (k : JW kC (bC G A) A l D a (jQ (bC G A) A a v w' mc ms) mc ms w ce sl pc lv st) : JW kC (bC G A) A l D a (tQQ y G A a (.inr v) w' mc ms) mc ms w ce sl pc lv st := by
  intro p e s m below meth c H locs ls X hr hlk hn hK hB hS hl T hT XS
  obtain ⟨t, a1, oc, b1, b2, b3, b4⟩ := k p e s m below meth c H locs ls X hr hlk hn hK hB hS hl T hT XS
  exact ⟨t, a1, fun _ => ⟨oc, b1, b2, Or.inl ⟨⟨v, rfl, b3⟩, b4⟩⟩⟩
theorem t_met {o : Nat ⊕ Option PV} {lv0 : List (Nat × PV)} (h : jOk y D a lv0) (k : JW kC (bC G A) A l D a (tQQ y G A a o w' mc ms) mc ms w 0 0 0 lv0 []) : JMT G A l y D a w o w' mc ms := by
  obtain ⟨hy, hc, hnm, hsz, h0⟩ := h
  subst h0
  refine vx_ofW (cc := D.2.1) (maxL := D.2.2.1) (ret := D.2.2.2.1) hy rfl ?_
  intro p e s m args below meth c s₁ B9 hml _ hv
  obtain ⟨rfl, hK, hB⟩ := hv
  have hts := atoms_spec (ws := ws_ y D.2.1 D.2.2.1 D.2.2.2.1) B9.pre
  have hts : ∀ w ∈ lw_all, w.before _ s = true := fun w h => hts w (List.mem_cons_of_mem _ h)
  have hown : s.vm.findClass y.cls = some m.cls := findClass_of_methodNamed B9.named
  have hl := lv_entry (a.map mv) (n := D.2.2.1) (by rw [jsz_eq]; exact hsz)
  rw [lg_entry_eq]
  rw [jargs_eq] at hl
  intro T hT XS
  obtain ⟨t, a1, b1⟩ := k p e s m below meth c s.heap [] _ ⟨B9.exec, B9.bytes, hml, by rw [← hc]; exact hown, hts⟩ B9.returns B9.notSynchronized (by rw [← hnm]; exact (name_of_methodNamed B9.named B9.method).1) hK hB va_S.rf hl T hT XS
  refine ⟨t, a1, b1 fun m' ar bl hf => ?_⟩
  rw [XS.frames] at hf
  cases hf
  exact B9.named
/-- q is over the frame, and nothing here catches it -/
theorem t_leave {p : Program} {e : Env} {s : State} {m : MethodId} {below : List Frame} {meth : Method} {c : Code} {H : Heap} {locs : List Loc} {ls : Array Slot} {rest : List Value} {q : Nat} {bytes : ByteArray} {maxL : Nat} {ret : Option FieldType}
    (X : CallFix p m c D.2.1 D.2.2.1 s (a.map mv).toArray lw_all D.1) (hlk : meth.locks = false) (hB : bC G A w s H) (hS : va_S A s.heap H locs) (ht : zT w q = 9)
    (qc : Cond.code y bytes maxL ret ∈ lw_all) (hcs : ce ≤ mc ∧ sl ≤ ms) : vx_W p l e (jroom D mc ms) s m (a.map mv).toArray below meth c H locs ce sl (tQQ y G A a (.inl q) w mc ms below s) (F0 m pc ls rest) q := by
  intro T hT XS
  by_cases hP : s.methodNamed? y = some m
  · obtain ⟨meth', c', h1, h2, -, -, -, -, hemp, -⟩ := Cond.code_spec hP (X.2.2.2.2 _ qc)
    cases XS.method.symm.trans h1
    cases XS.code.symm.trans h2
    obtain ⟨cell, q1, q2, q3, -⟩ := bC_obj hB zcl_8 ht (bC_fst hB ht)
    obtain ⟨t, a1, b1⟩ := vx_out (pc := pc) (E := faultN) (ce := cell) (q := q) (mc := mc) (ms := ms) (Qc := tQ (.inl q) w G A) (XC := tX (.inl q) w G A) (free := A) (ls := ls) (rest := rest)
      (fun x hx => by rw [Array.isEmpty_iff.mp hemp] at hx; cases hx) hlk q1 q3 (by rw [q2]; exact (hB.1.1 8 _ zcl_8.2.1).2.1)
      (fun t ht9 hvm => ⟨rfl, rfl, by rw [ht9]; exact bC_mv G A w s t H hvm hB, by rw [ht9]; exact hS.1, fun z h1 h2 => by rw [ht9]; exact hS.2.1 z h1 h2⟩) hS.2.2 hcs.1 hcs.2 T hT XS
    exact ⟨t, a1, fun _ => b1⟩
  · exact ⟨_, Steps.refl _, fun h => absurd (h m _ _ XS.frames) hP⟩
theorem t_athrow {q : Nat} {bytes : ByteArray} {maxL : Nat} {ret : Option FieldType} (ht : zT w q = 9) (qc : Cond.code y bytes maxL ret ∈ lw_all) (hcs : ce ≤ mc ∧ sl ≤ ms) (hd : decode D.2.1 pc = .ok (.athrow, 1)) :
    JW kC (bC G A) A l D a (tQQ y G A a (.inl q) w mc ms) mc ms w ce sl pc lv (pR (some q) :: st) := by
  intro p e s m below meth c H locs ls X hr hlk hn hK hB hS hl
  exact vx_athrow X.1 X.2.1 hd (t_leave X hlk hB hS ht qc hcs)
end TLeaf
section TCall
variable {p : Program} {l : Launch} {e : Env} {R : Room} {s : State} {m : MethodId} {args : Array Value} {below : List Frame} {meth : Method} {c : Code} {H : Heap} {locs : List Loc} {cells slots : Nat} {Q : State → Prop}
variable {pc : Nat} {ls : Array Slot} {rest st0 : List Value} {a : Array Value} {A : Nat → Prop} {H0 : Heap} {mc ms : Nat} {G : CG} {w1 : Sg} {g : JFrame}
theorem tw_toRun {o1 : Option PV} (h : vx_Run p l e R s m args below meth c H locs cells slots mc ms g rest (tQ (.inr o1) w1 G A a) (tX (.inr o1) w1 G A) A) : va_Run p l e R s m args below meth c H locs cells slots mc ms g rest (kQ o1 w1 (bC G A) A a) A := by
  intro T hT X
  rcases h T hT X with ⟨v, st₀, t, T', L, h0, X', hL, e1, e2, ⟨v2, hv2, hq⟩, st⟩ | ⟨q, st₀, t, T', L, E, ce, h0, X', hL, e1, e2, ⟨-, hv2, -⟩, -⟩
  · cases hv2
    exact ⟨v, st₀, t, T', L, h0, X', hL, e1, e2, hq, st⟩
  · cases hv2
theorem tw_thr {q : Nat} (h : vx_Run p l e R s m args below meth c H locs cells slots mc ms g rest (tQ (.inl q) w1 G A a) (tX (.inl q) w1 G A) A) (hS : va_S A H0 H locs)
    (kk : ∀ (t : State) (H1 : Heap) (locs1 : List Loc), t.heap = H1 → s.vm.Alike t.vm → bC G A w1 t H1 → va_S A H0 H1 locs1 → vx_W p l e R s m args below meth c H1 locs1 (cells + mc) (slots + ms) Q { g with stack := rest } q) : W p l e R s m args below meth c H locs cells slots Q g := by
  intro T hT X
  rcases h T hT X with ⟨v, st₀, t, T', L, h0, X', hL, e1, e2, ⟨v2, hv2, hq⟩, st⟩ | ⟨q9, st₀, t, T', L, E, ce, h0, X', hL, e1, e2, ⟨-, hv2, hb, hz, hk⟩, -, -, -, st⟩
  · cases hv2
  · cases hv2
    rw [h0] at hz hk
    obtain ⟨t2, a1, b1⟩ := kk t T'.heap (locs ++ L) e1.symm (by rw [← e2]; exact X'.warmed.alike) (by rw [e1]; exact hb)
      ⟨Nat.le_trans hS.1 (by rw [e1]; exact hz), fun q h1 h2 => by rw [e1, hk q (Nat.lt_of_lt_of_le h1 hS.1) h2]; exact hS.2.1 q h1 h2, fun q hq => by
        rcases List.mem_append.mp hq with h | h
        · exact hS.2.2 q h
        · exact hL q h⟩ T' rfl X'
    exact ⟨t2, st.trans a1, b1⟩
end TCall
section TRows
variable {G : CG} {A : Nat → Prop} {l : Launch} {y y0 : MethodName} {D Dy : MD} {a : List PV} {w w1 : Sg} {mc ms ce sl pc b idx n mc1 ms1 : Nat} {lv : List (Nat × PV)} {st : List PV} {Q : List Frame → State → State → Prop}
theorem t_callV {o1 : Option PV} (As rest : List PV) (st : List PV) (hM : JMT G A l y Dy (pR (some b) :: As) w (.inr o1) w1 mc1 ms1) (hq : jwV D.1 Dy idx y) (hdv : jdV y Dy.1 n) (hn : As.length = n) (hrm : jrm D Dy) (hrc : jrecv (bC G A) w b Dy.1)
    (hst : st = As.reverse ++ pR (some b) :: rest) (h8 : (rest.map jcat).sum ≤ 8) (hd : decode D.2.1 pc = .ok (.invokevirtual idx, 3)) (hcs : ce + mc1 ≤ mc ∧ sl + ms1 ≤ ms) (k : JW kC (bC G A) A l D a Q mc ms w1 (ce + mc1) (sl + ms1) (pc + 3) lv (o1.toList ++ rest)) : JW kC (bC G A) A l D a Q mc ms w ce sl pc lv st := by
  intro p e s m below meth c H locs ls X hr hlk hn9 hK hB hS hl
  subst hst
  obtain ⟨q1, q2, q3, q4, q5⟩ := hq
  refine jw_call (o1 := o1) (w1 := w1) (B := bC G A) (mc := mc1) (ms := ms1) (rest := rest.map mv) (a := ((pR (some b) :: As).map mv).toArray) (tw_toRun (vx_runV (As := As.map mv) (rest := rest.map mv) (b := b) X hM (cwV n X.2.2.2.2 (lw_V q1 q2 q3 q4 q5) rfl rfl rfl hdv hrm) ⟨jblind kC_v (bC_mv G A) (pR (some b) :: As), hrc s H hB, fun U hU hW => ⟨rfl, kC_v.1 s U hW hK, by rw [hU]; exact bC_mv G A w s U H hW.alike hB⟩⟩ rfl (by rw [List.length_map]; exact hn) hl.1 (by simp [mv, va_rf]) (lv_room (by rw [jcat_sum]; exact h8)) hd hcs)) hS ?_
  intro t H1 locs1 ht hvm hB1 hS1
  have h := k p e s m below meth c H1 locs1 ls X hr hlk hn9 hK (bC_mv G A w1 t s H1 hvm.symm hB1) hS1 hl
  rw [map_toList]
  exact h
theorem x_callV {q : Nat} (As rest : List PV) (st : List PV) {bytes : ByteArray} {maxL : Nat} {ret : Option FieldType} (hM : JMT G A l y Dy (pR (some b) :: As) w (.inl q) w1 mc1 ms1) (hq : jwV D.1 Dy idx y) (hdv : jdV y Dy.1 n) (hn : As.length = n) (hrm : jrm D Dy) (hrc : jrecv (bC G A) w b Dy.1)
    (hst : st = As.reverse ++ pR (some b) :: rest) (h8 : (rest.map jcat).sum ≤ 8) (hd : decode D.2.1 pc = .ok (.invokevirtual idx, 3)) (hcs : ce + mc1 ≤ mc ∧ sl + ms1 ≤ ms) (ht : zT w1 q = 9) (qc : Cond.code y0 bytes maxL ret ∈ lw_all) : JW kC (bC G A) A l D a (tQQ y0 G A a (.inl q) w1 mc ms) mc ms w ce sl pc lv st := by
  intro p e s m below meth c H locs ls X hr hlk hn9 hK hB hS hl
  subst hst
  obtain ⟨q1, q2, q3, q4, q5⟩ := hq
  refine tw_thr (q := q) (w1 := w1) (mc := mc1) (ms := ms1) (rest := rest.map mv) (a := ((pR (some b) :: As).map mv).toArray) (vx_runV (As := As.map mv) (rest := rest.map mv) (b := b) X hM (cwV n X.2.2.2.2 (lw_V q1 q2 q3 q4 q5) rfl rfl rfl hdv hrm) ⟨jblind kC_v (bC_mv G A) (pR (some b) :: As), hrc s H hB, fun U hU hW => ⟨rfl, kC_v.1 s U hW hK, by rw [hU]; exact bC_mv G A w s U H hW.alike hB⟩⟩ rfl (by rw [List.length_map]; exact hn) hl.1 (by simp [mv, va_rf]) (lv_room (by rw [jcat_sum]; exact h8)) hd hcs) hS ?_
  intro t H1 locs1 ht9 hvm hB1 hS1
  exact t_leave X hlk (bC_mv G A w1 t s H1 hvm.symm hB1) hS1 ht qc hcs
end TRows
section TRows2
variable {G : CG} {A : Nat → Prop} {l : Launch} {y0 : MethodName} {D : MD} {a : List PV} {w w1 : Sg} {mc ms ce sl pc : Nat} {lv : List (Nat × PV)} {Q : List Frame → State → State → Prop}
theorem t_callI {y : MethodName} {Dy : MD} {b idx n mc1 ms1 : Nat} (As rest : List PV) (st : List PV) (hM : JMT G A l y Dy (pR (some b) :: As) w (.inr none) w1 mc1 ms1) (hq : jwI D.1 Dy idx y) (hdv : jdV y Dy.1 n) (hn : As.length = n) (hrm : jrm D Dy)
    (hst : st = As.reverse ++ pR (some b) :: rest) (h8 : (rest.map jcat).sum ≤ 8) (hd : decode D.2.1 pc = .ok (.invokespecial idx, 3)) (hcs : ce + mc1 ≤ mc ∧ sl + ms1 ≤ ms) (k : JW kC (bC G A) A l D a Q mc ms w1 (ce + mc1) (sl + ms1) (pc + 3) lv rest) : JW kC (bC G A) A l D a Q mc ms w ce sl pc lv st := by
  intro p e s m below meth c H locs ls X hr hlk hn9 hK hB hS hl
  subst hst
  obtain ⟨q1, q2, q3, q4, q5, q6⟩ := hq
  have hM : vx_Met l y (ws_ y Dy.2.1 Dy.2.2.1 none) (jroom Dy mc1 ms1) (va_Pc ((pR (some b) :: As).map mv) (fun U => kC U ∧ bC G A w U U.heap)) (tQ (.inr none) w1 G A) (tX (.inr none) w1 G A) mc1 ms1 A := by rw [← q5]; exact hM
  refine jw_call (o1 := none) (w1 := w1) (B := bC G A) (mc := mc1) (ms := ms1) (rest := rest.map mv) (a := ((pR (some b) :: As).map mv).toArray) (tw_toRun (vx_runI (As := As.map mv) (rest := rest.map mv) (b := b) X hM (cwI n X.2.2.2.2 (lw_meth q4) rfl rfl rfl (X.2.2.2.2 _ q3) (X.2.2.2.2 _ q1) (X.2.2.2.2 _ q2) q6 hdv.2 hrm) ⟨jblind kC_v (bC_mv G A) (pR (some b) :: As), fun U hU hW => ⟨rfl, kC_v.1 s U hW hK, by rw [hU]; exact bC_mv G A w s U H hW.alike hB⟩⟩ rfl (by rw [List.length_map]; exact hn) hl.1 (by simp [mv, va_rf]) (lv_room (by rw [jcat_sum]; exact h8)) hd hcs)) hS ?_
  intro t H1 locs1 ht9 hvm hB1 hS1
  exact k p e s m below meth c H1 locs1 ls X hr hlk hn9 hK (bC_mv G A w1 t s H1 hvm.symm hB1) hS1 hl
theorem x_callI {y : MethodName} {Dy : MD} {b idx n mc1 ms1 q : Nat} (As rest : List PV) (st : List PV) (hM : JMT G A l y Dy (pR (some b) :: As) w (.inl q) w1 mc1 ms1) (hq : jwI D.1 Dy idx y) (hdv : jdV y Dy.1 n) (hn : As.length = n) (hrm : jrm D Dy)
    (hst : st = As.reverse ++ pR (some b) :: rest) (h8 : (rest.map jcat).sum ≤ 8) (hd : decode D.2.1 pc = .ok (.invokespecial idx, 3)) (hcs : ce + mc1 ≤ mc ∧ sl + ms1 ≤ ms) {bytes : ByteArray} {maxL : Nat} {ret : Option FieldType} (ht : zT w1 q = 9) (qc : Cond.code y0 bytes maxL ret ∈ lw_all) : JW kC (bC G A) A l D a (tQQ y0 G A a (.inl q) w1 mc ms) mc ms w ce sl pc lv st := by
  intro p e s m below meth c H locs ls X hr hlk hn9 hK hB hS hl
  subst hst
  obtain ⟨q1, q2, q3, q4, q5, q6⟩ := hq
  have hM : vx_Met l y (ws_ y Dy.2.1 Dy.2.2.1 none) (jroom Dy mc1 ms1) (va_Pc ((pR (some b) :: As).map mv) (fun U => kC U ∧ bC G A w U U.heap)) (tQ (.inl q) w1 G A) (tX (.inl q) w1 G A) mc1 ms1 A := by rw [← q5]; exact hM
  refine tw_thr (q := q) (w1 := w1) (mc := mc1) (ms := ms1) (rest := rest.map mv) (a := ((pR (some b) :: As).map mv).toArray) (vx_runI (As := As.map mv) (rest := rest.map mv) (b := b) X hM (cwI n X.2.2.2.2 (lw_meth q4) rfl rfl rfl (X.2.2.2.2 _ q3) (X.2.2.2.2 _ q1) (X.2.2.2.2 _ q2) q6 hdv.2 hrm) ⟨jblind kC_v (bC_mv G A) (pR (some b) :: As), fun U hU hW => ⟨rfl, kC_v.1 s U hW hK, by rw [hU]; exact bC_mv G A w s U H hW.alike hB⟩⟩ rfl (by rw [List.length_map]; exact hn) hl.1 (by simp [mv, va_rf]) (lv_room (by rw [jcat_sum]; exact h8)) hd hcs) hS ?_
  intro t H1 locs1 ht9 hvm hB1 hS1
  exact t_leave X hlk (bC_mv G A w1 t s H1 hvm.symm hB1) hS1 ht qc hcs
theorem t_callVN {y : MethodName} {Dy : MD} {b idx n mc1 ms1 : Nat} {host : String} {o1 : Option PV} (As rest : List PV) (st : List PV) (hM : JMT G A l y Dy (pR (some b) :: As) w (.inr o1) w1 mc1 ms1) (hq : Cond.methodLinkNest D.1 idx y host ∈ lw_tbl ∧ Cond.instanceMethod y ∈ lw_all ∧ Cond.selects Dy.1 y y ∈ lw_all ∧ Cond.initialized y.cls ∈ lw_all ∧ Cond.code y Dy.2.1 Dy.2.2.1 Dy.2.2.2.1 ∈ lw_all) (hdv : jdV y Dy.1 n) (hn : As.length = n) (hrm : jrm D Dy) (hrc : jrecv (bC G A) w b Dy.1)
    (hst : st = As.reverse ++ pR (some b) :: rest) (h8 : (rest.map jcat).sum ≤ 8) (hd : decode D.2.1 pc = .ok (.invokevirtual idx, 3)) (hcs : ce + mc1 ≤ mc ∧ sl + ms1 ≤ ms) (k : JW kC (bC G A) A l D a Q mc ms w1 (ce + mc1) (sl + ms1) (pc + 3) lv (o1.toList ++ rest)) : JW kC (bC G A) A l D a Q mc ms w ce sl pc lv st := by
  intro p e s m below meth c H locs ls X hr hlk hn9 hK hB hS hl
  subst hst
  obtain ⟨q1, q2, q3, q4, q5⟩ := hq
  refine jw_call (o1 := o1) (w1 := w1) (B := bC G A) (mc := mc1) (ms := ms1) (rest := rest.map mv) (a := ((pR (some b) :: As).map mv).toArray) (tw_toRun (vx_runVN (As := As.map mv) (rest := rest.map mv) (b := b) (C := Dy.1) X hM ⟨va_cnB n X.2.2.2.2 (lw_meth q5) rfl rfl rfl (hK.1 _ q1 rfl) (X.2.2.2.2 _ q4) hdv.2 hrm, X.2.2.2.2 _ q2, X.2.2.2.2 _ q3⟩ ⟨jblind kC_v (bC_mv G A) (pR (some b) :: As), hrc s H hB, fun U hU hW => ⟨rfl, kC_v.1 s U hW hK, by rw [hU]; exact bC_mv G A w s U H hW.alike hB⟩⟩ rfl (by rw [List.length_map]; exact hn) hl.1 (by simp [mv, va_rf]) (lv_room (by rw [jcat_sum]; exact h8)) hd hcs)) hS ?_
  intro t H1 locs1 ht9 hvm hB1 hS1
  have h := k p e s m below meth c H1 locs1 ls X hr hlk hn9 hK (bC_mv G A w1 t s H1 hvm.symm hB1) hS1 hl
  rw [map_toList]
  exact h
theorem x_callVN {y : MethodName} {Dy : MD} {b idx n mc1 ms1 q : Nat} {host : String} (As rest : List PV) (st : List PV) (hM : JMT G A l y Dy (pR (some b) :: As) w (.inl q) w1 mc1 ms1) (hq : Cond.methodLinkNest D.1 idx y host ∈ lw_tbl ∧ Cond.instanceMethod y ∈ lw_all ∧ Cond.selects Dy.1 y y ∈ lw_all ∧ Cond.initialized y.cls ∈ lw_all ∧ Cond.code y Dy.2.1 Dy.2.2.1 Dy.2.2.2.1 ∈ lw_all) (hdv : jdV y Dy.1 n) (hn : As.length = n) (hrm : jrm D Dy) (hrc : jrecv (bC G A) w b Dy.1)
    (hst : st = As.reverse ++ pR (some b) :: rest) (h8 : (rest.map jcat).sum ≤ 8) (hd : decode D.2.1 pc = .ok (.invokevirtual idx, 3)) (hcs : ce + mc1 ≤ mc ∧ sl + ms1 ≤ ms) {bytes : ByteArray} {maxL : Nat} {ret : Option FieldType} (ht : zT w1 q = 9) (qc : Cond.code y0 bytes maxL ret ∈ lw_all) : JW kC (bC G A) A l D a (tQQ y0 G A a (.inl q) w1 mc ms) mc ms w ce sl pc lv st := by
  intro p e s m below meth c H locs ls X hr hlk hn9 hK hB hS hl
  subst hst
  obtain ⟨q1, q2, q3, q4, q5⟩ := hq
  refine tw_thr (q := q) (w1 := w1) (mc := mc1) (ms := ms1) (rest := rest.map mv) (a := ((pR (some b) :: As).map mv).toArray) (vx_runVN (As := As.map mv) (rest := rest.map mv) (b := b) (C := Dy.1) X hM ⟨va_cnB n X.2.2.2.2 (lw_meth q5) rfl rfl rfl (hK.1 _ q1 rfl) (X.2.2.2.2 _ q4) hdv.2 hrm, X.2.2.2.2 _ q2, X.2.2.2.2 _ q3⟩ ⟨jblind kC_v (bC_mv G A) (pR (some b) :: As), hrc s H hB, fun U hU hW => ⟨rfl, kC_v.1 s U hW hK, by rw [hU]; exact bC_mv G A w s U H hW.alike hB⟩⟩ rfl (by rw [List.length_map]; exact hn) hl.1 (by simp [mv, va_rf]) (lv_room (by rw [jcat_sum]; exact h8)) hd hcs) hS ?_
  intro t H1 locs1 ht9 hvm hB1 hS1
  exact t_leave X hlk (bC_mv G A w1 t s H1 hvm.symm hB1) hS1 ht qc hcs
theorem t_callIN {y : MethodName} {Dy : MD} {b idx n mc1 ms1 : Nat} {host : String} (As rest : List PV) (st : List PV) (hM : JMT G A l y Dy (pR (some b) :: As) w (.inr none) w1 mc1 ms1) (hq : jwIN D.1 Dy idx y host) (hdv : jdV y Dy.1 n) (hn : As.length = n) (hrm : jrm D Dy)
    (hst : st = As.reverse ++ pR (some b) :: rest) (h8 : (rest.map jcat).sum ≤ 8) (hd : decode D.2.1 pc = .ok (.invokespecial idx, 3)) (hcs : ce + mc1 ≤ mc ∧ sl + ms1 ≤ ms) (k : JW kC (bC G A) A l D a Q mc ms w1 (ce + mc1) (sl + ms1) (pc + 3) lv rest) : JW kC (bC G A) A l D a Q mc ms w ce sl pc lv st := by
  intro p e s m below meth c H locs ls X hr hlk hn9 hK hB hS hl
  subst hst
  obtain ⟨q1, q2, q3, q4, q5, q6⟩ := hq
  have hM : vx_Met l y (ws_ y Dy.2.1 Dy.2.2.1 none) (jroom Dy mc1 ms1) (va_Pc ((pR (some b) :: As).map mv) (fun U => kC U ∧ bC G A w U U.heap)) (tQ (.inr none) w1 G A) (tX (.inr none) w1 G A) mc1 ms1 A := by rw [← q5]; exact hM
  refine jw_call (o1 := none) (w1 := w1) (B := bC G A) (mc := mc1) (ms := ms1) (rest := rest.map mv) (a := ((pR (some b) :: As).map mv).toArray) (tw_toRun (vx_runIN (As := As.map mv) (rest := rest.map mv) (b := b) X hM ⟨va_cnB n X.2.2.2.2 (lw_meth q4) rfl rfl rfl (hK.1 _ q1 rfl) (X.2.2.2.2 _ q3) hdv.2 hrm, q6, X.2.2.2.2 _ q2⟩ ⟨jblind kC_v (bC_mv G A) (pR (some b) :: As), fun U hU hW => ⟨rfl, kC_v.1 s U hW hK, by rw [hU]; exact bC_mv G A w s U H hW.alike hB⟩⟩ rfl (by rw [List.length_map]; exact hn) hl.1 (by simp [mv, va_rf]) (lv_room (by rw [jcat_sum]; exact h8)) hd hcs)) hS ?_
  intro t H1 locs1 ht9 hvm hB1 hS1
  exact k p e s m below meth c H1 locs1 ls X hr hlk hn9 hK (bC_mv G A w1 t s H1 hvm.symm hB1) hS1 hl
theorem x_callIN {y : MethodName} {Dy : MD} {b idx n mc1 ms1 q : Nat} {host : String} (As rest : List PV) (st : List PV) (hM : JMT G A l y Dy (pR (some b) :: As) w (.inl q) w1 mc1 ms1) (hq : jwIN D.1 Dy idx y host) (hdv : jdV y Dy.1 n) (hn : As.length = n) (hrm : jrm D Dy)
    (hst : st = As.reverse ++ pR (some b) :: rest) (h8 : (rest.map jcat).sum ≤ 8) (hd : decode D.2.1 pc = .ok (.invokespecial idx, 3)) (hcs : ce + mc1 ≤ mc ∧ sl + ms1 ≤ ms) {bytes : ByteArray} {maxL : Nat} {ret : Option FieldType} (ht : zT w1 q = 9) (qc : Cond.code y0 bytes maxL ret ∈ lw_all) : JW kC (bC G A) A l D a (tQQ y0 G A a (.inl q) w1 mc ms) mc ms w ce sl pc lv st := by
  intro p e s m below meth c H locs ls X hr hlk hn9 hK hB hS hl
  subst hst
  obtain ⟨q1, q2, q3, q4, q5, q6⟩ := hq
  have hM : vx_Met l y (ws_ y Dy.2.1 Dy.2.2.1 none) (jroom Dy mc1 ms1) (va_Pc ((pR (some b) :: As).map mv) (fun U => kC U ∧ bC G A w U U.heap)) (tQ (.inl q) w1 G A) (tX (.inl q) w1 G A) mc1 ms1 A := by rw [← q5]; exact hM
  refine tw_thr (q := q) (w1 := w1) (mc := mc1) (ms := ms1) (rest := rest.map mv) (a := ((pR (some b) :: As).map mv).toArray) (vx_runIN (As := As.map mv) (rest := rest.map mv) (b := b) X hM ⟨va_cnB n X.2.2.2.2 (lw_meth q4) rfl rfl rfl (hK.1 _ q1 rfl) (X.2.2.2.2 _ q3) hdv.2 hrm, q6, X.2.2.2.2 _ q2⟩ ⟨jblind kC_v (bC_mv G A) (pR (some b) :: As), fun U hU hW => ⟨rfl, kC_v.1 s U hW hK, by rw [hU]; exact bC_mv G A w s U H hW.alike hB⟩⟩ rfl (by rw [List.length_map]; exact hn) hl.1 (by simp [mv, va_rf]) (lv_room (by rw [jcat_sum]; exact h8)) hd hcs) hS ?_
  intro t H1 locs1 ht9 hvm hB1 hS1
  exact t_leave X hlk (bC_mv G A w1 t s H1 hvm.symm hB1) hS1 ht qc hcs
end TRows2
