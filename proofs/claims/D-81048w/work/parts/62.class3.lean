/-! CALLS in the class world -/
section JCall5
variable {p : Program} {l : Launch} {e : Env} {R : Room} {s : State} {m : MethodId} {args : Array Value} {below : List Frame} {meth : Method} {c : Code} {H : Heap} {locs : List Loc} {cells slots : Nat} {Q : State → Prop}
variable {pc : Nat} {ls : Array Slot} {rest st0 : List Value} {a : Array Value} {A : Nat → Prop} {H0 : Heap} {mc ms : Nat}
theorem jw_call5 {Ω : Type} {B : Ω → State → Heap → Prop} {o1 : Option PV} {w1 : Ω} (hr : va_Run5 p l e R s m args below meth c H locs cells slots mc ms (F0 m pc ls st0) rest (kQ o1 w1 B A a) A) (hS : va_S A H0 H locs)
    (kk : ∀ (t : State) (H1 : Heap) (locs1 : List Loc), t.heap = H1 → s.vm.Alike t.vm → B w1 t H1 → va_S A H0 H1 locs1 → W p l e R s m args below meth c H1 locs1 (cells + mc) (slots + ms) Q (F0 m (pc + 5) ls ((o1.map mv).toList ++ rest))) : W p l e R s m args below meth c H locs cells slots Q (F0 m pc ls st0) := by
  intro T hT X
  obtain ⟨v, st₀, t, T', L, h0, X', hL, e1, e2, ⟨⟨hv, hb⟩, hz, hk⟩, st⟩ := hr T hT X
  cases hv
  rw [h0] at hz hk
  obtain ⟨t2, a1, b1⟩ := kk t T'.heap (locs ++ L) e1.symm (by rw [← e2]; exact X'.warmed.alike) (by rw [e1]; exact hb)
    ⟨Nat.le_trans hS.1 (by rw [e1]; exact hz), fun q h1 h2 => by rw [e1, hk q (Nat.lt_of_lt_of_le h1 hS.1) h2]; exact hS.2.1 q h1 h2, fun q hq => by
      rcases List.mem_append.mp hq with h | h
      · exact hS.2.2 q h
      · exact hL q h⟩ T' rfl X'
  exact ⟨t2, st t2 a1, b1⟩
end JCall5
/-- the words of a call by an interface -/
def jwF (own : String) (Dy : MD) (idx : Nat) (x y : MethodName) : Prop := Cond.methodLink own idx x ∈ lw_all ∧ Cond.selects Dy.1 x y ∈ lw_all ∧ Cond.instanceMethod y ∈ lw_all ∧ Cond.initialized y.cls ∈ lw_all ∧ Cond.code y Dy.2.1 Dy.2.2.1 Dy.2.2.2.1 ∈ lw_all
def jdF (x : MethodName) (n : Nat) : Prop := x.cls ≠ "java/lang/invoke/MethodHandle" ∧ x.cls ≠ "java/lang/invoke/VarHandle" ∧ (parseMethodDescriptor x.desc).map (fun d => d.parameters.length) = some n
/-- the words of a constructor's call -/
def jwI (own : String) (Dy : MD) (idx : Nat) (y : MethodName) : Prop := Cond.methodLink own idx y ∈ lw_all ∧ Cond.instanceMethod y ∈ lw_all ∧ Cond.initialized y.cls ∈ lw_all ∧ Cond.code y Dy.2.1 Dy.2.2.1 none ∈ lw_all ∧ Dy.2.2.2.1 = none ∧ y.name = "<init>"
def jwIN (own : String) (Dy : MD) (idx : Nat) (y : MethodName) (host : String) : Prop := Cond.methodLinkNest own idx y host ∈ lw_tbl ∧ Cond.instanceMethod y ∈ lw_all ∧ Cond.initialized y.cls ∈ lw_all ∧ Cond.code y Dy.2.1 Dy.2.2.1 none ∈ lw_all ∧ Dy.2.2.2.1 = none ∧ y.name = "<init>"
section JCallsC
variable {G : CG} {A : Nat → Prop} {l : Launch} {D : MD} {a : List PV} {Q : List Frame → State → State → Prop} {w w1 : Sg} {mc ms ce sl pc : Nat} {lv lv' : List (Nat × PV)}
theorem c_callF {x y : MethodName} {Dy : MD} {ci N b idx n cnt mc1 ms1 : Nat} {C : String} {T : u_T} {ty : Nat → FieldType} {o1 : Option PV} (As rest : List PV) (st : List PV) (hM : JM kC (bC G A) A l y Dy (pR (some b) :: As) w o1 w1 mc1 ms1) (hq : jwF D.1 Dy idx x y) (hF : ∀ s, kC s → va_Fw Dy.1 x y s) (hdv : jdF x n) (hn : As.length = n) (hrm : jrm D Dy) (hc : zCl ci C T N ty) (hC : C = Dy.1) (ht : zT w b = ci + 1)
    (hst : st = As.reverse ++ pR (some b) :: rest) (h8 : (rest.map jcat).sum ≤ 8) (hd : decode D.2.1 pc = .ok (.invokeinterface idx cnt, 5)) (hcs : ce + mc1 ≤ mc ∧ sl + ms1 ≤ ms) (k : JW kC (bC G A) A l D a Q mc ms w1 (ce + mc1) (sl + ms1) (pc + 5) lv (o1.toList ++ rest)) : JW kC (bC G A) A l D a Q mc ms w ce sl pc lv st := by
  intro p e s m below meth c H locs ls X hr hlk hn9 hK hB hS hl
  subst hst
  subst hC
  obtain ⟨q1, q2, q3, q4, q5⟩ := hq
  have hat := (hB.1.1 ci _ hc.2.1).2
  have hG : GoodIn lw_all (va_wsF D.1 idx Dy.1 x y (ws_ y Dy.2.1 Dy.2.2.1 Dy.2.2.2.1)) := by
    refine lw_app (fun w9 h9 => ?_) (lw_meth q5)
    simp only [List.mem_cons, List.not_mem_nil, or_false] at h9
    rcases h9 with rfl | rfl | rfl | rfl
    · exact q1
    · exact q2
    · exact q3
    · exact q4
  refine jw_call5 (o1 := o1) (w1 := w1) (B := bC G A) (mc := mc1) (ms := ms1) (rest := rest.map mv) (a := ((pR (some b) :: As).map mv).toArray) (va_runF (As := As.map mv) (rest := rest.map mv) (b := b) hat X hM (va_cwF n X.2.2.2.2 hG rfl rfl rfl (hF s hK) hdv hrm) ⟨jblind kC_v (bC_mv G A) (pR (some b) :: As), c_recv hc ht s H hB, fun U hU hW => ⟨rfl, kC_v.1 s U hW hK, by rw [hU]; exact bC_mv G A w s U H hW.alike hB⟩⟩ rfl (by rw [List.length_map]; exact hn) hl.1 (by simp [mv, va_rf]) (lv_room (by rw [jcat_sum]; exact h8)) hd hcs) hS ?_
  intro t H1 locs1 ht9 hvm hB1 hS1
  have h := k p e s m below meth c H1 locs1 ls X hr hlk hn9 hK (bC_mv G A w1 t s H1 hvm.symm hB1) hS1 hl
  rw [map_toList]
  exact h
theorem c_callI {y : MethodName} {Dy : MD} {b idx n mc1 ms1 : Nat} (As rest : List PV) (st : List PV) (hM : JM kC (bC G A) A l y Dy (pR (some b) :: As) w none w1 mc1 ms1) (hq : jwI D.1 Dy idx y) (hdv : jdV y Dy.1 n) (hn : As.length = n) (hrm : jrm D Dy)
    (hst : st = As.reverse ++ pR (some b) :: rest) (h8 : (rest.map jcat).sum ≤ 8) (hd : decode D.2.1 pc = .ok (.invokespecial idx, 3)) (hcs : ce + mc1 ≤ mc ∧ sl + ms1 ≤ ms) (k : JW kC (bC G A) A l D a Q mc ms w1 (ce + mc1) (sl + ms1) (pc + 3) lv rest) : JW kC (bC G A) A l D a Q mc ms w ce sl pc lv st := by
  intro p e s m below meth c H locs ls X hr hlk hn9 hK hB hS hl
  subst hst
  obtain ⟨q1, q2, q3, q4, q5, q6⟩ := hq
  have hM : Met l y (ws_ y Dy.2.1 Dy.2.2.1 none) (jroom Dy mc1 ms1) (va_Pc ((pR (some b) :: As).map mv) (fun U => kC U ∧ bC G A w U U.heap)) (kQ none w1 (bC G A) A) mc1 ms1 A := by rw [← q5]; exact hM
  refine jw_call (o1 := none) (w1 := w1) (B := bC G A) (mc := mc1) (ms := ms1) (rest := rest.map mv) (a := ((pR (some b) :: As).map mv).toArray) (va_runI (As := As.map mv) (rest := rest.map mv) (b := b) X hM (cwI n X.2.2.2.2 (lw_meth q4) rfl rfl rfl (X.2.2.2.2 _ q3) (X.2.2.2.2 _ q1) (X.2.2.2.2 _ q2) q6 hdv.2 hrm) ⟨jblind kC_v (bC_mv G A) (pR (some b) :: As), fun U hU hW => ⟨rfl, kC_v.1 s U hW hK, by rw [hU]; exact bC_mv G A w s U H hW.alike hB⟩⟩ rfl (by rw [List.length_map]; exact hn) hl.1 (by simp [mv, va_rf]) (lv_room (by rw [jcat_sum]; exact h8)) hd hcs) hS ?_
  intro t H1 locs1 ht9 hvm hB1 hS1
  exact k p e s m below meth c H1 locs1 ls X hr hlk hn9 hK (bC_mv G A w1 t s H1 hvm.symm hB1) hS1 hl
theorem c_objInit {b idx : Nat} {st : List PV} (hq : Cond.methodLink D.1 idx Lib.objectInit ∈ lw_all) (h2 : Cond.instanceMethod Lib.objectInit ∈ lw_all) (h3 : Cond.code Lib.objectInit ⟨#[0xb1]⟩ 1 none ∈ lw_all) (hf : 1 ≤ D.2.2.2.2.2.1) (hlo : 20 ≤ D.2.2.2.2.2.2) (h8 : (st.map jcat).sum ≤ 8) (hd : decode D.2.1 pc = .ok (.invokespecial idx, 3)) (k : JW kC (bC G A) A l D a Q mc ms w ce sl (pc + 3) lv st) : JW kC (bC G A) A l D a Q mc ms w ce sl pc lv (pR (some b) :: st) := by
  intro p e s m below meth c H locs ls X hr hlk hn9 hK hB hS hl
  have h := k p e s m below meth c H locs ls X hr hlk hn9 hK hB hS hl
  have h9 : 2 * (F0 m pc ls (mv (pR (some b)) :: st.map mv)).monitorRoom + ((st.map mv).map fun v => v.category).sum ≤ 8 := lv_room (by rw [jcat_sum]; exact h8)
  exact W.objInit X.1 X.2.1 X.2.2.2.1 (X.2.2.2.2 _ hq) (X.2.2.2.2 _ h2) (X.2.2.2.2 _ h3) rfl (by rw [X.2.2.1]; exact hl.1) rfl hd hf (Nat.le_trans (Nat.add_le_add_right h9 12) hlo) h
theorem c_callVN {y : MethodName} {Dy : MD} {b idx n mc1 ms1 : Nat} {host : String} {o1 : Option PV} (As rest : List PV) (st : List PV) (hM : JM kC (bC G A) A l y Dy (pR (some b) :: As) w o1 w1 mc1 ms1) (hq : Cond.methodLinkNest D.1 idx y host ∈ lw_tbl ∧ Cond.instanceMethod y ∈ lw_all ∧ Cond.selects Dy.1 y y ∈ lw_all ∧ Cond.initialized y.cls ∈ lw_all ∧ Cond.code y Dy.2.1 Dy.2.2.1 Dy.2.2.2.1 ∈ lw_all) (hdv : jdV y Dy.1 n) (hn : As.length = n) (hrm : jrm D Dy) (hrc : jrecv (bC G A) w b Dy.1)
    (hst : st = As.reverse ++ pR (some b) :: rest) (h8 : (rest.map jcat).sum ≤ 8) (hd : decode D.2.1 pc = .ok (.invokevirtual idx, 3)) (hcs : ce + mc1 ≤ mc ∧ sl + ms1 ≤ ms) (k : JW kC (bC G A) A l D a Q mc ms w1 (ce + mc1) (sl + ms1) (pc + 3) lv (o1.toList ++ rest)) : JW kC (bC G A) A l D a Q mc ms w ce sl pc lv st := by
  intro p e s m below meth c H locs ls X hr hlk hn9 hK hB hS hl
  subst hst
  obtain ⟨q1, q2, q3, q4, q5⟩ := hq
  refine jw_call (o1 := o1) (w1 := w1) (B := bC G A) (mc := mc1) (ms := ms1) (rest := rest.map mv) (a := ((pR (some b) :: As).map mv).toArray) (va_runVN (As := As.map mv) (rest := rest.map mv) (b := b) (C := Dy.1) X hM ⟨va_cnB n X.2.2.2.2 (lw_meth q5) rfl rfl rfl (hK.1 _ q1 rfl) (X.2.2.2.2 _ q4) hdv.2 hrm, X.2.2.2.2 _ q2, X.2.2.2.2 _ q3⟩ ⟨jblind kC_v (bC_mv G A) (pR (some b) :: As), hrc s H hB, fun U hU hW => ⟨rfl, kC_v.1 s U hW hK, by rw [hU]; exact bC_mv G A w s U H hW.alike hB⟩⟩ rfl (by rw [List.length_map]; exact hn) hl.1 (by simp [mv, va_rf]) (lv_room (by rw [jcat_sum]; exact h8)) hd hcs) hS ?_
  intro t H1 locs1 ht9 hvm hB1 hS1
  have h := k p e s m below meth c H1 locs1 ls X hr hlk hn9 hK (bC_mv G A w1 t s H1 hvm.symm hB1) hS1 hl
  rw [map_toList]
  exact h
theorem c_callIN {y : MethodName} {Dy : MD} {b idx n mc1 ms1 : Nat} {host : String} (As rest : List PV) (st : List PV) (hM : JM kC (bC G A) A l y Dy (pR (some b) :: As) w none w1 mc1 ms1) (hq : jwIN D.1 Dy idx y host) (hdv : jdV y Dy.1 n) (hn : As.length = n) (hrm : jrm D Dy)
    (hst : st = As.reverse ++ pR (some b) :: rest) (h8 : (rest.map jcat).sum ≤ 8) (hd : decode D.2.1 pc = .ok (.invokespecial idx, 3)) (hcs : ce + mc1 ≤ mc ∧ sl + ms1 ≤ ms) (k : JW kC (bC G A) A l D a Q mc ms w1 (ce + mc1) (sl + ms1) (pc + 3) lv rest) : JW kC (bC G A) A l D a Q mc ms w ce sl pc lv st := by
  intro p e s m below meth c H locs ls X hr hlk hn9 hK hB hS hl
  subst hst
  obtain ⟨q1, q2, q3, q4, q5, q6⟩ := hq
  have hM : Met l y (ws_ y Dy.2.1 Dy.2.2.1 none) (jroom Dy mc1 ms1) (va_Pc ((pR (some b) :: As).map mv) (fun U => kC U ∧ bC G A w U U.heap)) (kQ none w1 (bC G A) A) mc1 ms1 A := by rw [← q5]; exact hM
  refine jw_call (o1 := none) (w1 := w1) (B := bC G A) (mc := mc1) (ms := ms1) (rest := rest.map mv) (a := ((pR (some b) :: As).map mv).toArray) (va_runIN (As := As.map mv) (rest := rest.map mv) (b := b) X hM ⟨va_cnB n X.2.2.2.2 (lw_meth q4) rfl rfl rfl (hK.1 _ q1 rfl) (X.2.2.2.2 _ q3) hdv.2 hrm, q6, X.2.2.2.2 _ q2⟩ ⟨jblind kC_v (bC_mv G A) (pR (some b) :: As), fun U hU hW => ⟨rfl, kC_v.1 s U hW hK, by rw [hU]; exact bC_mv G A w s U H hW.alike hB⟩⟩ rfl (by rw [List.length_map]; exact hn) hl.1 (by simp [mv, va_rf]) (lv_room (by rw [jcat_sum]; exact h8)) hd hcs) hS ?_
  intro t H1 locs1 ht9 hvm hB1 hS1
  exact k p e s m below meth c H1 locs1 ls X hr hlk hn9 hK (bC_mv G A w1 t s H1 hvm.symm hB1) hS1 hl
theorem ztg_s {s : Sg} {t b : Nat} {r : Option Nat} (h : ztg s t r = some b) : r = some b ∧ zT s b = t := by
  obtain ⟨a, h1, h2⟩ := ob h
  by_cases hc : zT s a = t
  · rw [if_pos hc] at h2; cases h2; exact ⟨h1, hc⟩
  · rw [if_neg hc] at h2; cases h2
end JCallsC
