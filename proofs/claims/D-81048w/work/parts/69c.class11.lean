/-! methods that catch a Fault -/
def JMH (G : CG) (A : Nat → Prop) (l : Launch) (y : MethodName) (D : MD) (hh : List (Nat × Nat × Nat × Nat)) (a : List PV) (w : Sg) (o : Option PV) (w' : Sg) (mc ms : Nat) : Prop :=
  vx_Met l y (Cond.codeWith y D.2.1 D.2.2.1 D.2.2.2.1 hh :: lw_all) (jroom D mc ms) (va_Pc (a.map mv) (fun U => kC U ∧ bC G A w U U.heap)) (tQ (.inr o) w' G A) (tX (.inr o) w' G A) mc ms A
section HMet
variable {G : CG} {A : Nat → Prop} {l : Launch} {y : MethodName} {D : MD} {a : List PV} {w w' : Sg} {mc ms ce sl pc : Nat} {lv : List (Nat × PV)} {st : List PV}
theorem h_met {o : Option PV} {lv0 : List (Nat × PV)} {hh : List (Nat × Nat × Nat × Nat)} (h : jOk y D a lv0) (k : JW kC (bC G A) A l D a (tQQ y G A a (.inr o) w' mc ms) mc ms w 0 0 0 lv0 []) : JMH G A l y D hh a w o w' mc ms := by
  obtain ⟨hy, hc, hnm, hsz, h0⟩ := h
  subst h0
  refine vx_ofWH (cc := D.2.1) (maxL := D.2.2.1) (ret := D.2.2.2.1) hy rfl ?_
  intro p e s m args below meth c s₁ B9 hml hv
  obtain ⟨rfl, hK, hB⟩ := hv
  have hts := atoms_spec (ws := Cond.codeWith y D.2.1 D.2.2.1 D.2.2.2.1 hh :: lw_all) B9.pre
  have hts : ∀ w ∈ lw_all, w.before _ s = true := fun w h => hts w (List.mem_cons_of_mem _ h)
  have hown : s.vm.findClass y.cls = some m.cls := findClass_of_methodNamed B9.named
  have hl := lv_entry (a.map mv) (n := D.2.2.1) (by rw [jsz_eq]; exact hsz)
  rw [lg_entry_eq]
  rw [jargs_eq] at hl
  intro T hT XS
  obtain ⟨t, a1, b1⟩ := k p e s m below meth c s.heap [] _ ⟨B9.exec, B9.bytes, hml, by rw [← hc]; exact hown, hts⟩ B9.returns B9.notSynchronized (by rw [← hnm]; exact (name_of_methodNamed B9.named B9.method).1) hK hB va_S.rf hl T hT XS
  refine ⟨t, a1, b1 fun m' ar bl hf => ?_⟩
  rw [XS.frames] at hf
  cases hf
  exact B9.named
/-- q is over the frame, and the one row of the table takes it -/
theorem h_land {p : Program} {e : Env} {s : State} {m : MethodId} {below : List Frame} {meth : Method} {c : Code} {H : Heap} {locs : List Loc} {ls : Array Slot} {rest : List Value} {q f0 t0 h0 ct : Nat} {bytes : ByteArray} {maxL : Nat} {ret : Option FieldType} {o : Nat ⊕ Option PV} {w1 : Sg}
    (X : CallFix p m c D.2.1 D.2.2.1 s (a.map mv).toArray lw_all D.1) (hK : kC s) (hB : bC G A w s H) (ht : zT w q = 9)
    (qc : Cond.codeWith y bytes maxL ret [(f0, t0, h0, ct)] ∈ lw_all) (hcov : f0 ≤ pc ∧ pc < t0 ∧ ct ≠ 0) (hcl : Cond.classLink D.1 ct RX8 ∈ lw_all)
    (kk : W p l e (jroom D mc ms) s m (a.map mv).toArray below meth c H locs ce sl (tQQ y G A a o w1 mc ms below s) (F0 m h0 ls [.ref q])) : vx_W p l e (jroom D mc ms) s m (a.map mv).toArray below meth c H locs ce sl (tQQ y G A a o w1 mc ms below s) (F0 m pc ls rest) q := by
  intro T hT XS
  by_cases hP : s.methodNamed? y = some m
  · obtain ⟨m9, meth', c', hn9, h1, h2, -, -, htab, -⟩ := Cond.codeWith_spec (X.2.2.2.2 _ qc)
    cases hn9.symm.trans hP
    cases XS.method.symm.trans h1
    cases XS.code.symm.trans h2
    obtain ⟨cell, q1, q2, q3, -⟩ := bC_obj hB zcl_8 ht (bC_fst hB ht)
    obtain ⟨x9, hx9⟩ : ∃ x9, c.exceptionTable.toList = [x9] := by
      cases hl9 : c.exceptionTable.toList with
      | nil => rw [hl9] at htab; cases htab
      | cons z r =>
        rw [hl9] at htab
        cases r with
        | nil => exact ⟨z, rfl⟩
        | cons z2 r2 => cases htab
    rw [hx9] at htab
    have e1 : x9.startPc = f0 ∧ x9.endPc = t0 ∧ x9.handlerPc = h0 ∧ x9.catchType = ct := by
      simp only [List.map_cons, List.map_nil, List.cons.injEq, Prod.mk.injEq, and_true] at htab
      exact htab
    obtain ⟨e1, e2, e3, e4⟩ := e1
    exact vx_catch (own := D.1) (name := RX8) (E := RX8) (ce := cell) (q := q) (pc := pc) X.2.2.2.1 [] x9 [] hx9 (fun z hz => by cases hz) (by simp [covers, e1, e2]; omega) (by rw [e4]; exact hcov.2.2) (by rw [e4]; exact X.2.2.2.2 _ hcl) (va_Nw.use rfl (hK.1 _ q669 rfl)) q1 q3 (by rw [q2]; exact (hB.1.1 8 _ zcl_8.2.1).2.1) (by rw [e3]; exact kk) T hT XS
  · exact ⟨_, Steps.refl _, fun h => absurd (h m _ _ XS.frames) hP⟩
end HMet
section
variable {G : CG} {A : Nat → Prop} {l : Launch} {y y0 : MethodName} {D Dy : MD} {a : List PV} {w w1 : Sg} {mc ms ce sl pc b idx n mc1 ms1 : Nat} {lv : List (Nat × PV)}
theorem hc_callV {q : Nat} (As rest : List PV) (st : List PV) {bytes : ByteArray} {maxL : Nat} {ret : Option FieldType} (hM : JMT G A l y Dy (pR (some b) :: As) w (.inl q) w1 mc1 ms1) (hq : jwV D.1 Dy idx y) (hdv : jdV y Dy.1 n) (hn : As.length = n) (hrm : jrm D Dy) (hrc : jrecv (bC G A) w b Dy.1)
    (hst : st = As.reverse ++ pR (some b) :: rest) (h8 : (rest.map jcat).sum ≤ 8) (hd : decode D.2.1 pc = .ok (.invokevirtual idx, 3)) (hcs : ce + mc1 ≤ mc ∧ sl + ms1 ≤ ms) (ht : zT w1 q = 9) {f0 t0 h0 ct : Nat} (qc : Cond.codeWith y0 bytes maxL ret [(f0, t0, h0, ct)] ∈ lw_all) (hcov : f0 ≤ pc ∧ pc < t0 ∧ ct ≠ 0) (hcl : Cond.classLink D.1 ct RX8 ∈ lw_all) {o : Nat ⊕ Option PV} {w2 : Sg} (k : JW kC (bC G A) A l D a (tQQ y0 G A a o w2 mc ms) mc ms w1 (ce + mc1) (sl + ms1) h0 lv [pR (some q)]) : JW kC (bC G A) A l D a (tQQ y0 G A a o w2 mc ms) mc ms w ce sl pc lv st := by
  intro p e s m below meth c H locs ls X hr hlk hn9 hK hB hS hl
  subst hst
  obtain ⟨q1, q2, q3, q4, q5⟩ := hq
  refine tw_thr (q := q) (w1 := w1) (mc := mc1) (ms := ms1) (rest := rest.map mv) (a := ((pR (some b) :: As).map mv).toArray) (vx_runV (As := As.map mv) (rest := rest.map mv) (b := b) X hM (cwV n X.2.2.2.2 (lw_V q1 q2 q3 q4 q5) rfl rfl rfl hdv hrm) ⟨jblind kC_v (bC_mv G A) (pR (some b) :: As), hrc s H hB, fun U hU hW => ⟨rfl, kC_v.1 s U hW hK, by rw [hU]; exact bC_mv G A w s U H hW.alike hB⟩⟩ rfl (by rw [List.length_map]; exact hn) hl.1 (by simp [mv, va_rf]) (lv_room (by rw [jcat_sum]; exact h8)) hd hcs) hS ?_
  intro t H1 locs1 ht9 hvm hB1 hS1
  exact h_land X hK (bC_mv G A w1 t s H1 hvm.symm hB1) ht qc hcov hcl (k p e s m below meth c H1 locs1 ls X hr hlk hn9 hK (bC_mv G A w1 t s H1 hvm.symm hB1) hS1 hl)
end
section
variable {G : CG} {A : Nat → Prop} {l : Launch} {y y0 : MethodName} {D Dy : MD} {a : List PV} {w w1 : Sg} {mc ms ce sl pc b idx n mc1 ms1 : Nat} {lv : List (Nat × PV)}
theorem hc_callI {y : MethodName} {Dy : MD} {b idx n mc1 ms1 q : Nat} (As rest : List PV) (st : List PV) (hM : JMT G A l y Dy (pR (some b) :: As) w (.inl q) w1 mc1 ms1) (hq : jwI D.1 Dy idx y) (hdv : jdV y Dy.1 n) (hn : As.length = n) (hrm : jrm D Dy)
    (hst : st = As.reverse ++ pR (some b) :: rest) (h8 : (rest.map jcat).sum ≤ 8) (hd : decode D.2.1 pc = .ok (.invokespecial idx, 3)) (hcs : ce + mc1 ≤ mc ∧ sl + ms1 ≤ ms) {bytes : ByteArray} {maxL : Nat} {ret : Option FieldType} (ht : zT w1 q = 9) {f0 t0 h0 ct : Nat} (qc : Cond.codeWith y0 bytes maxL ret [(f0, t0, h0, ct)] ∈ lw_all) (hcov : f0 ≤ pc ∧ pc < t0 ∧ ct ≠ 0) (hcl : Cond.classLink D.1 ct RX8 ∈ lw_all) {o : Nat ⊕ Option PV} {w2 : Sg} (k : JW kC (bC G A) A l D a (tQQ y0 G A a o w2 mc ms) mc ms w1 (ce + mc1) (sl + ms1) h0 lv [pR (some q)]) : JW kC (bC G A) A l D a (tQQ y0 G A a o w2 mc ms) mc ms w ce sl pc lv st := by
  intro p e s m below meth c H locs ls X hr hlk hn9 hK hB hS hl
  subst hst
  obtain ⟨q1, q2, q3, q4, q5, q6⟩ := hq
  have hM : vx_Met l y (ws_ y Dy.2.1 Dy.2.2.1 none) (jroom Dy mc1 ms1) (va_Pc ((pR (some b) :: As).map mv) (fun U => kC U ∧ bC G A w U U.heap)) (tQ (.inl q) w1 G A) (tX (.inl q) w1 G A) mc1 ms1 A := by rw [← q5]; exact hM
  refine tw_thr (q := q) (w1 := w1) (mc := mc1) (ms := ms1) (rest := rest.map mv) (a := ((pR (some b) :: As).map mv).toArray) (vx_runI (As := As.map mv) (rest := rest.map mv) (b := b) X hM (cwI n X.2.2.2.2 (lw_meth q4) rfl rfl rfl (X.2.2.2.2 _ q3) (X.2.2.2.2 _ q1) (X.2.2.2.2 _ q2) q6 hdv.2 hrm) ⟨jblind kC_v (bC_mv G A) (pR (some b) :: As), fun U hU hW => ⟨rfl, kC_v.1 s U hW hK, by rw [hU]; exact bC_mv G A w s U H hW.alike hB⟩⟩ rfl (by rw [List.length_map]; exact hn) hl.1 (by simp [mv, va_rf]) (lv_room (by rw [jcat_sum]; exact h8)) hd hcs) hS ?_
  intro t H1 locs1 ht9 hvm hB1 hS1
  exact h_land X hK (bC_mv G A w1 t s H1 hvm.symm hB1) ht qc hcov hcl (k p e s m below meth c H1 locs1 ls X hr hlk hn9 hK (bC_mv G A w1 t s H1 hvm.symm hB1) hS1 hl)
end
section
variable {G : CG} {A : Nat → Prop} {l : Launch} {y y0 : MethodName} {D Dy : MD} {a : List PV} {w w1 : Sg} {mc ms ce sl pc b idx n mc1 ms1 : Nat} {lv : List (Nat × PV)}
theorem hc_callVN {y : MethodName} {Dy : MD} {b idx n mc1 ms1 q : Nat} {host : String} (As rest : List PV) (st : List PV) (hM : JMT G A l y Dy (pR (some b) :: As) w (.inl q) w1 mc1 ms1) (hq : Cond.methodLinkNest D.1 idx y host ∈ lw_tbl ∧ Cond.instanceMethod y ∈ lw_all ∧ Cond.selects Dy.1 y y ∈ lw_all ∧ Cond.initialized y.cls ∈ lw_all ∧ Cond.code y Dy.2.1 Dy.2.2.1 Dy.2.2.2.1 ∈ lw_all) (hdv : jdV y Dy.1 n) (hn : As.length = n) (hrm : jrm D Dy) (hrc : jrecv (bC G A) w b Dy.1)
    (hst : st = As.reverse ++ pR (some b) :: rest) (h8 : (rest.map jcat).sum ≤ 8) (hd : decode D.2.1 pc = .ok (.invokevirtual idx, 3)) (hcs : ce + mc1 ≤ mc ∧ sl + ms1 ≤ ms) {bytes : ByteArray} {maxL : Nat} {ret : Option FieldType} (ht : zT w1 q = 9) {f0 t0 h0 ct : Nat} (qc : Cond.codeWith y0 bytes maxL ret [(f0, t0, h0, ct)] ∈ lw_all) (hcov : f0 ≤ pc ∧ pc < t0 ∧ ct ≠ 0) (hcl : Cond.classLink D.1 ct RX8 ∈ lw_all) {o : Nat ⊕ Option PV} {w2 : Sg} (k : JW kC (bC G A) A l D a (tQQ y0 G A a o w2 mc ms) mc ms w1 (ce + mc1) (sl + ms1) h0 lv [pR (some q)]) : JW kC (bC G A) A l D a (tQQ y0 G A a o w2 mc ms) mc ms w ce sl pc lv st := by
  intro p e s m below meth c H locs ls X hr hlk hn9 hK hB hS hl
  subst hst
  obtain ⟨q1, q2, q3, q4, q5⟩ := hq
  refine tw_thr (q := q) (w1 := w1) (mc := mc1) (ms := ms1) (rest := rest.map mv) (a := ((pR (some b) :: As).map mv).toArray) (vx_runVN (As := As.map mv) (rest := rest.map mv) (b := b) (C := Dy.1) X hM ⟨va_cnB n X.2.2.2.2 (lw_meth q5) rfl rfl rfl (hK.1 _ q1 rfl) (X.2.2.2.2 _ q4) hdv.2 hrm, X.2.2.2.2 _ q2, X.2.2.2.2 _ q3⟩ ⟨jblind kC_v (bC_mv G A) (pR (some b) :: As), hrc s H hB, fun U hU hW => ⟨rfl, kC_v.1 s U hW hK, by rw [hU]; exact bC_mv G A w s U H hW.alike hB⟩⟩ rfl (by rw [List.length_map]; exact hn) hl.1 (by simp [mv, va_rf]) (lv_room (by rw [jcat_sum]; exact h8)) hd hcs) hS ?_
  intro t H1 locs1 ht9 hvm hB1 hS1
  exact h_land X hK (bC_mv G A w1 t s H1 hvm.symm hB1) ht qc hcov hcl (k p e s m below meth c H1 locs1 ls X hr hlk hn9 hK (bC_mv G A w1 t s H1 hvm.symm hB1) hS1 hl)
end
section
variable {G : CG} {A : Nat → Prop} {l : Launch} {y y0 : MethodName} {D Dy : MD} {a : List PV} {w w1 : Sg} {mc ms ce sl pc b idx n mc1 ms1 : Nat} {lv : List (Nat × PV)}
theorem hc_callIN {y : MethodName} {Dy : MD} {b idx n mc1 ms1 q : Nat} {host : String} (As rest : List PV) (st : List PV) (hM : JMT G A l y Dy (pR (some b) :: As) w (.inl q) w1 mc1 ms1) (hq : jwIN D.1 Dy idx y host) (hdv : jdV y Dy.1 n) (hn : As.length = n) (hrm : jrm D Dy)
    (hst : st = As.reverse ++ pR (some b) :: rest) (h8 : (rest.map jcat).sum ≤ 8) (hd : decode D.2.1 pc = .ok (.invokespecial idx, 3)) (hcs : ce + mc1 ≤ mc ∧ sl + ms1 ≤ ms) {bytes : ByteArray} {maxL : Nat} {ret : Option FieldType} (ht : zT w1 q = 9) {f0 t0 h0 ct : Nat} (qc : Cond.codeWith y0 bytes maxL ret [(f0, t0, h0, ct)] ∈ lw_all) (hcov : f0 ≤ pc ∧ pc < t0 ∧ ct ≠ 0) (hcl : Cond.classLink D.1 ct RX8 ∈ lw_all) {o : Nat ⊕ Option PV} {w2 : Sg} (k : JW kC (bC G A) A l D a (tQQ y0 G A a o w2 mc ms) mc ms w1 (ce + mc1) (sl + ms1) h0 lv [pR (some q)]) : JW kC (bC G A) A l D a (tQQ y0 G A a o w2 mc ms) mc ms w ce sl pc lv st := by
  intro p e s m below meth c H locs ls X hr hlk hn9 hK hB hS hl
  subst hst
  obtain ⟨q1, q2, q3, q4, q5, q6⟩ := hq
  have hM : vx_Met l y (ws_ y Dy.2.1 Dy.2.2.1 none) (jroom Dy mc1 ms1) (va_Pc ((pR (some b) :: As).map mv) (fun U => kC U ∧ bC G A w U U.heap)) (tQ (.inl q) w1 G A) (tX (.inl q) w1 G A) mc1 ms1 A := by rw [← q5]; exact hM
  refine tw_thr (q := q) (w1 := w1) (mc := mc1) (ms := ms1) (rest := rest.map mv) (a := ((pR (some b) :: As).map mv).toArray) (vx_runIN (As := As.map mv) (rest := rest.map mv) (b := b) X hM ⟨va_cnB n X.2.2.2.2 (lw_meth q4) rfl rfl rfl (hK.1 _ q1 rfl) (X.2.2.2.2 _ q3) hdv.2 hrm, q6, X.2.2.2.2 _ q2⟩ ⟨jblind kC_v (bC_mv G A) (pR (some b) :: As), fun U hU hW => ⟨rfl, kC_v.1 s U hW hK, by rw [hU]; exact bC_mv G A w s U H hW.alike hB⟩⟩ rfl (by rw [List.length_map]; exact hn) hl.1 (by simp [mv, va_rf]) (lv_room (by rw [jcat_sum]; exact h8)) hd hcs) hS ?_
  intro t H1 locs1 ht9 hvm hB1 hS1
  exact h_land X hK (bC_mv G A w1 t s H1 hvm.symm hB1) ht qc hcov hcl (k p e s m below meth c H1 locs1 ls X hr hlk hn9 hK (bC_mv G A w1 t s H1 hvm.symm hB1) hS1 hl)
end
