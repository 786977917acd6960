/-! BASE: pure values, the judgement JW over a world, generic rows -/
/-- pure values: an int, a long, a reference or null -/
abbrev PV : Type := Int ⊕ (Int ⊕ Option Nat)
abbrev pI (x : Int) : PV := .inl x
abbrev pL (x : Int) : PV := .inr (.inl x)
abbrev pR (r : Option Nat) : PV := .inr (.inr r)
def mv : PV → Value
  | .inl x => .int (jI x)
  | .inr (.inl x) => .long (jL x)
  | .inr (.inr r) => va_rf r
def jcat : PV → Nat
  | .inl _ => 1
  | .inr (.inl _) => 2
  | .inr (.inr _) => 1
theorem mv_cat (v : PV) : (mv v).category = jcat v := by
  rcases v with x | x | r
  · rfl
  · rfl
  · cases r <;> rfl
def jq (q : Nat × PV) : Nat × Value := (q.1, mv q.2)
/-- a method: its class, its bytes, its locals, its answer's type, its name, its frames and words of locals -/
abbrev MD : Type := String × ByteArray × Nat × Option FieldType × String × Nat × Nat
abbrev jroom (D : MD) (mc ms : Nat) : Room := { frames := D.2.2.2.2.2.1, cells := mc, slots := ms, locals := D.2.2.2.2.2.2 }
def kQ {Ω : Type} (o : Option PV) (w : Ω) (B : Ω → State → Heap → Prop) (A : Nat → Prop) : Array Value → State → Outcome → State → Prop := fun _ st oc t => (oc = .returned (o.map mv) ∧ B w t t.heap) ∧ va_F A st t
/-- a world that the tables' warming doesn't touch -/
def jMv {Ω : Type} (B : Ω → State → Heap → Prop) : Prop := ∀ (w : Ω) (u U : State) (H : Heap), u.vm.Alike U.vm → B w u H → B w U H
/-- tables' words that the warming keeps -/
def jKv (Kt : State → Prop) : Prop := (∀ s U : State, s.WarmedH U.vm → Kt s → Kt U) ∧ ∀ s U : State, s.vm = U.vm → Kt s → Kt U
/-- at pc, with the locals lv, the stack st and the world w, the method D (called with a) comes to an end with Q -/
def JW {Ω : Type} (Kt : State → Prop) (B : Ω → State → Heap → Prop) (A : Nat → Prop) (l : Launch) (D : MD) (a : List PV) (Q : List Frame → State → State → Prop) (mc ms : Nat) (w : Ω) (ce sl : Nat) (pc : Nat) (lv : List (Nat × PV)) (st : List PV) : Prop :=
  ∀ (p : Program) (e : Env) (s : State) (m : MethodId) (below : List Frame) (meth : Method) (c : Code) (H : Heap) (locs : List Loc) (ls : Array Slot),
    CallFix p m c D.2.1 D.2.2.1 s (a.map mv).toArray lw_all D.1 → meth.sig.returnType = D.2.2.2.1 → meth.locks = false → meth.name = D.2.2.2.2.1 →
    Kt s → B w s H → va_S A s.heap H locs → lv_has ls D.2.2.1 (lv.map jq) →
    W p l e (jroom D mc ms) s m (a.map mv).toArray below meth c H locs ce sl (Q below s) (F0 m pc ls (st.map mv))
/-- what a method that returns owes -/
abbrev jQ {Ω : Type} (B : Ω → State → Heap → Prop) (A : Nat → Prop) (a : List PV) (o : Option PV) (w' : Ω) (mc ms : Nat) : List Frame → State → State → Prop := fun below s => MQ below (kQ o w' B A) (a.map mv).toArray s mc ms A
/-- a method's contract -/
def JM {Ω : Type} (Kt : State → Prop) (B : Ω → State → Heap → Prop) (A : Nat → Prop) (l : Launch) (y : MethodName) (D : MD) (a : List PV) (w : Ω) (o : Option PV) (w' : Ω) (mc ms : Nat) : Prop :=
  Met l y (ws_ y D.2.1 D.2.2.1 D.2.2.2.1) (jroom D mc ms) (va_Pc (a.map mv) (fun U => Kt U ∧ B w U U.heap)) (kQ o w' B A) mc ms A
theorem jl_at {ls : Array Slot} {nL : Nat} {lv : List (Nat × PV)} (h : lv_has ls nL (lv.map jq)) (k : Nat) {i : Nat} {v : PV} (hk : lv[k]? = some (i, v)) : ls[i]? = some (.val (mv v)) :=
  lv_at h k (by rw [List.getElem?_map, hk]; rfl)
theorem jl_pick {ls : Array Slot} {nL : Nat} {lv lv' : List (Nat × PV)} (h : lv_has ls nL (lv.map jq)) (ks : List Nat) (hk : ks.filterMap (fun k => lv[k]?) = lv') : lv_has ls nL (lv'.map jq) := by
  refine ⟨h.1, h.2.1, fun q hq => ?_⟩
  subst hk
  obtain ⟨x, hx, rfl⟩ := List.mem_map.mp hq
  obtain ⟨i, -, hi⟩ := List.mem_filterMap.mp hx
  exact h.2.2 _ (List.mem_map.mpr ⟨x, List.mem_of_getElem? hi, rfl⟩)
/-- the locals behind a store at i -/
def jset (i : Nat) (v : PV) (lv : List (Nat × PV)) : List (Nat × PV) := (i, v) :: lv.filter (fun q => !(q.1 == i) && (!(q.1 == i + 1 && jcat v == 2) && !(q.1 + 1 == i && jcat q.2 == 2)))
theorem jl_store {ls : Array Slot} {nL : Nat} {lv lv' : List (Nat × PV)} (h : lv_has ls nL (lv.map jq)) {i : Nat} {v : PV} (hn : (if jcat v = 2 then i + 1 else i) < nL) (hl : jset i v lv = lv') : ∃ ls', storeLocals ls i (mv v) = some ls' ∧ lv_has ls' nL (lv'.map jq) := by
  subst hl
  by_cases hc : jcat v = 2
  · rw [if_pos hc] at hn
    obtain ⟨ls', e, h1, h2, h3⟩ := lv_store2 (v := mv v) h hn (by rw [mv_cat]; exact hc)
    refine ⟨ls', e, h1, h2, fun q hq => h3 q ?_⟩
    obtain ⟨x, hx, rfl⟩ := List.mem_map.mp hq
    unfold jset at hx
    rcases List.mem_cons.mp hx with rfl | hx
    · exact List.mem_cons_self
    · obtain ⟨h4, h5⟩ := List.mem_filter.mp hx
      refine List.mem_cons_of_mem _ (List.mem_filter.mpr ⟨List.mem_map.mpr ⟨x, h4, rfl⟩, ?_⟩)
      simp only [jq, mv_cat]
      simpa [hc] using h5
  · rw [if_neg hc] at hn
    have hc1 : (mv v).category = 1 := by rcases lv_cat (mv v) with q | q; exact q; exact absurd (by rw [← mv_cat]; exact q) hc
    obtain ⟨ls', e, h1, h2, h3⟩ := lv_store1 (v := mv v) h hn hc1
    refine ⟨ls', e, h1, h2, fun q hq => h3 q ?_⟩
    obtain ⟨x, hx, rfl⟩ := List.mem_map.mp hq
    unfold jset at hx
    rcases List.mem_cons.mp hx with rfl | hx
    · exact List.mem_cons_self
    · obtain ⟨h4, h5⟩ := List.mem_filter.mp hx
      refine List.mem_cons_of_mem _ (List.mem_filter.mpr ⟨List.mem_map.mpr ⟨x, h4, rfl⟩, ?_⟩)
      simp only [jq, mv_cat]
      simpa [hc] using h5

section JRows
variable {Ω : Type} {Kt : State → Prop} {B : Ω → State → Heap → Prop} {A : Nat → Prop} {l : Launch} {D : MD} {a : List PV} {Q : List Frame → State → State → Prop} {w' w : Ω} {mc ms ce sl pc : Nat} {lv lv' : List (Nat × PV)} {st : List PV}
theorem j_iconst {n : Int} (hd : decode D.2.1 pc = .ok (.iconst n, 1)) (k : JW Kt B A l D a Q mc ms w ce sl (pc + 1) lv (pI n :: st)) : JW Kt B A l D a Q mc ms w ce sl pc lv (st) := by
  intro p e s m below meth c H locs ls X hr hlk hn hK hB hS hl
  exact lv_iconst X.1 X.2.1 hd rfl (k p e s m below meth c H locs ls X hr hlk hn hK hB hS hl)
theorem j_bipush {n : Int} (hd : decode D.2.1 pc = .ok (.bipush n, 2)) (hv : -128 ≤ n ∧ n ≤ 127) (k : JW Kt B A l D a Q mc ms w ce sl (pc + 2) lv (pI n :: st)) : JW Kt B A l D a Q mc ms w ce sl pc lv st := by
  intro p e s m below meth c H locs ls X hr hlk hn hK hB hS hl
  exact lv_bipush X.1 X.2.1 hd (Int8.toInt32_ofInt hv.1 hv.2) (k p e s m below meth c H locs ls X hr hlk hn hK hB hS hl)
theorem j_sipush {n : Int} (hd : decode D.2.1 pc = .ok (.sipush n, 3)) (hv : -32768 ≤ n ∧ n ≤ 32767) (k : JW Kt B A l D a Q mc ms w ce sl (pc + 3) lv (pI n :: st)) : JW Kt B A l D a Q mc ms w ce sl pc lv st := by
  intro p e s m below meth c H locs ls X hr hlk hn hK hB hS hl
  exact lv_sipush X.1 X.2.1 hd (Int16.toInt32_ofInt hv.1 hv.2) (k p e s m below meth c H locs ls X hr hlk hn hK hB hS hl)
theorem j_lconst {n : Fin 2} {z : Int} (hd : decode D.2.1 pc = .ok (.lconst n, 1)) (hv : Int64.ofNat (n : Nat) = jL z) (k : JW Kt B A l D a Q mc ms w ce sl (pc + 1) lv (pL z :: st)) : JW Kt B A l D a Q mc ms w ce sl pc lv st := by
  intro p e s m below meth c H locs ls X hr hlk hn hK hB hS hl
  exact lv_lconst X.1 X.2.1 hd hv (k p e s m below meth c H locs ls X hr hlk hn hK hB hS hl)
theorem j_ldc {index : Nat} {v : Int32} {z : Int} (hq : Cond.constant D.1 index v ∈ lw_all) (hv : v = jI z) (hd : decode D.2.1 pc = .ok (.ldc index, 2)) (k : JW Kt B A l D a Q mc ms w ce sl (pc + 2) lv (pI z :: st)) : JW Kt B A l D a Q mc ms w ce sl pc lv st := by
  intro p e s m below meth c H locs ls X hr hlk hn hK hB hS hl
  subst hv
  exact lv_ldc X.1 X.2.1 X.2.2.2.1 (X.2.2.2.2 _ hq) hd (k p e s m below meth c H locs ls X hr hlk hn hK hB hS hl)
theorem j_ldcw {index : Nat} {v : Int32} {z : Int} (hq : Cond.constant D.1 index v ∈ lw_all) (hv : v = jI z) (hd : decode D.2.1 pc = .ok (.ldc_w index, 3)) (k : JW Kt B A l D a Q mc ms w ce sl (pc + 3) lv (pI z :: st)) : JW Kt B A l D a Q mc ms w ce sl pc lv st := by
  intro p e s m below meth c H locs ls X hr hlk hn hK hB hS hl
  subst hv
  exact lv_ldcw X.1 X.2.1 X.2.2.2.1 (X.2.2.2.2 _ hq) hd (k p e s m below meth c H locs ls X hr hlk hn hK hB hS hl)
theorem j_ldc2 {index : Nat} {v : Int64} {z : Int} (hq : Cond.constantLong D.1 index v ∈ lw_all) (hv : v = jL z) (hd : decode D.2.1 pc = .ok (.ldc2_w index, 3)) (k : JW Kt B A l D a Q mc ms w ce sl (pc + 3) lv (pL z :: st)) : JW Kt B A l D a Q mc ms w ce sl pc lv st := by
  intro p e s m below meth c H locs ls X hr hlk hn hK hB hS hl
  subst hv
  exact lv_ldc2 X.1 X.2.1 X.2.2.2.1 (X.2.2.2.2 _ hq) hd (k p e s m below meth c H locs ls X hr hlk hn hK hB hS hl)
theorem j_null (hd : decode D.2.1 pc = .ok (.aconst_null, 1)) (k : JW Kt B A l D a Q mc ms w ce sl (pc + 1) lv (pR none :: st)) : JW Kt B A l D a Q mc ms w ce sl pc lv st := by
  intro p e s m below meth c H locs ls X hr hlk hn hK hB hS hl
  exact lv_null X.1 X.2.1 hd (k p e s m below meth c H locs ls X hr hlk hn hK hB hS hl)
theorem j_iload_n {i : Fin 4} {x : Int} (hd : decode D.2.1 pc = .ok (.iload_n i, 1)) (q : Nat) (hq : lv[q]? = some ((i : Nat), pI x)) (k : JW Kt B A l D a Q mc ms w ce sl (pc + 1) lv (pI x :: st)) : JW Kt B A l D a Q mc ms w ce sl pc lv st := by
  intro p e s m below meth c H locs ls X hr hlk hn hK hB hS hl
  exact lv_iload_n X.1 X.2.1 hd rfl (jl_at hl q hq) (k p e s m below meth c H locs ls X hr hlk hn hK hB hS hl)
theorem j_iload {i : Nat} {x : Int} (hd : decode D.2.1 pc = .ok (.iload i, 2)) (q : Nat) (hq : lv[q]? = some (i, pI x)) (k : JW Kt B A l D a Q mc ms w ce sl (pc + 2) lv (pI x :: st)) : JW Kt B A l D a Q mc ms w ce sl pc lv st := by
  intro p e s m below meth c H locs ls X hr hlk hn hK hB hS hl
  exact lv_iload X.1 X.2.1 hd (jl_at hl q hq) (k p e s m below meth c H locs ls X hr hlk hn hK hB hS hl)
theorem j_lload_n {i : Fin 4} {x : Int} (hd : decode D.2.1 pc = .ok (.lload_n i, 1)) (q : Nat) (hq : lv[q]? = some ((i : Nat), pL x)) (k : JW Kt B A l D a Q mc ms w ce sl (pc + 1) lv (pL x :: st)) : JW Kt B A l D a Q mc ms w ce sl pc lv st := by
  intro p e s m below meth c H locs ls X hr hlk hn hK hB hS hl
  exact lv_lload_n X.1 X.2.1 hd rfl (jl_at hl q hq) (k p e s m below meth c H locs ls X hr hlk hn hK hB hS hl)
theorem j_lload {i : Nat} {x : Int} (hd : decode D.2.1 pc = .ok (.lload i, 2)) (q : Nat) (hq : lv[q]? = some (i, pL x)) (k : JW Kt B A l D a Q mc ms w ce sl (pc + 2) lv (pL x :: st)) : JW Kt B A l D a Q mc ms w ce sl pc lv st := by
  intro p e s m below meth c H locs ls X hr hlk hn hK hB hS hl
  exact lv_lload X.1 X.2.1 hd (jl_at hl q hq) (k p e s m below meth c H locs ls X hr hlk hn hK hB hS hl)
theorem j_aload_n {i : Fin 4} {x : Option Nat} (hd : decode D.2.1 pc = .ok (.aload_n i, 1)) (q : Nat) (hq : lv[q]? = some ((i : Nat), pR x)) (k : JW Kt B A l D a Q mc ms w ce sl (pc + 1) lv (pR x :: st)) : JW Kt B A l D a Q mc ms w ce sl pc lv st := by
  intro p e s m below meth c H locs ls X hr hlk hn hK hB hS hl
  cases x with
  | none => exact lv_aload_nN X.1 X.2.1 hd rfl (jl_at hl q hq) (k p e s m below meth c H locs ls X hr hlk hn hK hB hS hl)
  | some b => exact lv_aload_n X.1 X.2.1 hd rfl (jl_at hl q hq) (k p e s m below meth c H locs ls X hr hlk hn hK hB hS hl)
theorem j_aload {i : Nat} {x : Option Nat} (hd : decode D.2.1 pc = .ok (.aload i, 2)) (q : Nat) (hq : lv[q]? = some (i, pR x)) (k : JW Kt B A l D a Q mc ms w ce sl (pc + 2) lv (pR x :: st)) : JW Kt B A l D a Q mc ms w ce sl pc lv st := by
  intro p e s m below meth c H locs ls X hr hlk hn hK hB hS hl
  cases x with
  | none => exact lv_aloadN X.1 X.2.1 hd (jl_at hl q hq) (k p e s m below meth c H locs ls X hr hlk hn hK hB hS hl)
  | some b => exact lv_aload X.1 X.2.1 hd (jl_at hl q hq) (k p e s m below meth c H locs ls X hr hlk hn hK hB hS hl)
end JRows
section JSt
variable {p : Program} {l : Launch} {e : Env} {R : Room} {s : State} {m : MethodId} {args : Array Value} {below : List Frame} {meth : Method} {c : Code} {H : Heap} {locs : List Loc} {cells slots : Nat} {Q : State → Prop} {cc : ByteArray} {pc : Nat} {ls ls' : Array Slot} {rest : List Value}
theorem jw_istore_n (hexec : p.tables.exec = Jvm.exec) (hb : c.code = cc) {k : Fin 4} {z : Int32} (hdg : decode cc pc = .ok (.istore_n k, 1)) (e' : storeLocals ls (k : Nat) (.int z) = some ls') (kk : W p l e R s m args below meth c H locs cells slots Q (F0 m (pc + 1) ls' rest)) : W p l e R s m args below meth c H locs cells slots Q (F0 m pc ls (.int z :: rest)) := by
  intro T hT X
  obtain ⟨t, a, b⟩ := kk T hT X
  refine ⟨t, ?_, b⟩
  jvm_step X.here [X.here.top, ↓top_set X.here.top, hexec, hb, hdg, e']
  first | exact a | exact ⟨rfl, a⟩
theorem jw_istore (hexec : p.tables.exec = Jvm.exec) (hb : c.code = cc) {k : Nat} {z : Int32} (hdg : decode cc pc = .ok (.istore k, 2)) (e' : storeLocals ls (k : Nat) (.int z) = some ls') (kk : W p l e R s m args below meth c H locs cells slots Q (F0 m (pc + 2) ls' rest)) : W p l e R s m args below meth c H locs cells slots Q (F0 m pc ls (.int z :: rest)) := by
  intro T hT X
  obtain ⟨t, a, b⟩ := kk T hT X
  refine ⟨t, ?_, b⟩
  jvm_step X.here [X.here.top, ↓top_set X.here.top, hexec, hb, hdg, e']
  first | exact a | exact ⟨rfl, a⟩
theorem jw_lstore_n (hexec : p.tables.exec = Jvm.exec) (hb : c.code = cc) {k : Fin 4} {z : Int64} (hdg : decode cc pc = .ok (.lstore_n k, 1)) (e' : storeLocals ls (k : Nat) (.long z) = some ls') (kk : W p l e R s m args below meth c H locs cells slots Q (F0 m (pc + 1) ls' rest)) : W p l e R s m args below meth c H locs cells slots Q (F0 m pc ls (.long z :: rest)) := by
  intro T hT X
  obtain ⟨t, a, b⟩ := kk T hT X
  refine ⟨t, ?_, b⟩
  jvm_step X.here [X.here.top, ↓top_set X.here.top, hexec, hb, hdg, e']
  first | exact a | exact ⟨rfl, a⟩
theorem jw_lstore (hexec : p.tables.exec = Jvm.exec) (hb : c.code = cc) {k : Nat} {z : Int64} (hdg : decode cc pc = .ok (.lstore k, 2)) (e' : storeLocals ls (k : Nat) (.long z) = some ls') (kk : W p l e R s m args below meth c H locs cells slots Q (F0 m (pc + 2) ls' rest)) : W p l e R s m args below meth c H locs cells slots Q (F0 m pc ls (.long z :: rest)) := by
  intro T hT X
  obtain ⟨t, a, b⟩ := kk T hT X
  refine ⟨t, ?_, b⟩
  jvm_step X.here [X.here.top, ↓top_set X.here.top, hexec, hb, hdg, e']
  first | exact a | exact ⟨rfl, a⟩
theorem jw_astore_n (hexec : p.tables.exec = Jvm.exec) (hb : c.code = cc) {k : Fin 4} {z : Nat} (hdg : decode cc pc = .ok (.astore_n k, 1)) (e' : storeLocals ls (k : Nat) (.ref z) = some ls') (kk : W p l e R s m args below meth c H locs cells slots Q (F0 m (pc + 1) ls' rest)) : W p l e R s m args below meth c H locs cells slots Q (F0 m pc ls (.ref z :: rest)) := by
  intro T hT X
  obtain ⟨t, a, b⟩ := kk T hT X
  refine ⟨t, ?_, b⟩
  jvm_step X.here [X.here.top, ↓top_set X.here.top, hexec, hb, hdg, e']
  first | exact a | exact ⟨rfl, a⟩
theorem jw_astore (hexec : p.tables.exec = Jvm.exec) (hb : c.code = cc) {k : Nat} {z : Nat} (hdg : decode cc pc = .ok (.astore k, 2)) (e' : storeLocals ls (k : Nat) (.ref z) = some ls') (kk : W p l e R s m args below meth c H locs cells slots Q (F0 m (pc + 2) ls' rest)) : W p l e R s m args below meth c H locs cells slots Q (F0 m pc ls (.ref z :: rest)) := by
  intro T hT X
  obtain ⟨t, a, b⟩ := kk T hT X
  refine ⟨t, ?_, b⟩
  jvm_step X.here [X.here.top, ↓top_set X.here.top, hexec, hb, hdg, e']
  first | exact a | exact ⟨rfl, a⟩
theorem jw_astore_nN (hexec : p.tables.exec = Jvm.exec) (hb : c.code = cc) {k : Fin 4} (hdg : decode cc pc = .ok (.astore_n k, 1)) (e' : storeLocals ls (k : Nat) (.null) = some ls') (kk : W p l e R s m args below meth c H locs cells slots Q (F0 m (pc + 1) ls' rest)) : W p l e R s m args below meth c H locs cells slots Q (F0 m pc ls (.null :: rest)) := by
  intro T hT X
  obtain ⟨t, a, b⟩ := kk T hT X
  refine ⟨t, ?_, b⟩
  jvm_step X.here [X.here.top, ↓top_set X.here.top, hexec, hb, hdg, e']
  first | exact a | exact ⟨rfl, a⟩
theorem jw_astoreN (hexec : p.tables.exec = Jvm.exec) (hb : c.code = cc) {k : Nat} (hdg : decode cc pc = .ok (.astore k, 2)) (e' : storeLocals ls (k : Nat) (.null) = some ls') (kk : W p l e R s m args below meth c H locs cells slots Q (F0 m (pc + 2) ls' rest)) : W p l e R s m args below meth c H locs cells slots Q (F0 m pc ls (.null :: rest)) := by
  intro T hT X
  obtain ⟨t, a, b⟩ := kk T hT X
  refine ⟨t, ?_, b⟩
  jvm_step X.here [X.here.top, ↓top_set X.here.top, hexec, hb, hdg, e']
  first | exact a | exact ⟨rfl, a⟩
theorem jw_iinc (hexec : p.tables.exec = Jvm.exec) (hb : c.code = cc) {i : Nat} {n : Int} {z : Int32} (hdg : decode cc pc = .ok (.iinc i n, 3)) (h9 : ls[i]? = some (.val (.int z))) (e' : storeLocals ls i (.int (z + Int32.ofInt n)) = some ls') (kk : W p l e R s m args below meth c H locs cells slots Q (F0 m (pc + 3) ls' rest)) : W p l e R s m args below meth c H locs cells slots Q (F0 m pc ls rest) := by
  intro T hT X
  obtain ⟨t, a, b⟩ := kk T hT X
  refine ⟨t, ?_, b⟩
  jvm_step X.here [X.here.top, ↓top_set X.here.top, hexec, hb, hdg, h9, e']
  exact a
end JSt
section JRows2
variable {Ω : Type} {Kt : State → Prop} {B : Ω → State → Heap → Prop} {A : Nat → Prop} {l : Launch} {D : MD} {a : List PV} {Q : List Frame → State → State → Prop} {w' w : Ω} {mc ms ce sl pc : Nat} {lv lv' : List (Nat × PV)} {st : List PV}
theorem j_istore_n {i : Fin 4} {x : Int} (hd : decode D.2.1 pc = .ok (.istore_n i, 1)) (lv' : List (Nat × PV)) (hn0 : (if jcat (pI x) = 2 then (i : Nat) + 1 else (i : Nat)) < D.2.2.1) (hl0 : jset (i : Nat) (pI x) lv = lv') (k : JW Kt B A l D a Q mc ms w ce sl (pc + 1) lv' st) : JW Kt B A l D a Q mc ms w ce sl pc lv (pI x :: st) := by
  intro p e s m below meth c H locs ls X hr hlk hn hK hB hS hl
  obtain ⟨ls', e', h'⟩ := jl_store hl hn0 hl0
  exact jw_istore_n X.1 X.2.1 hd e' (k p e s m below meth c H locs ls' X hr hlk hn hK hB hS h')
theorem j_istore {i : Nat} {x : Int} (hd : decode D.2.1 pc = .ok (.istore i, 2)) (lv' : List (Nat × PV)) (hn0 : (if jcat (pI x) = 2 then (i : Nat) + 1 else (i : Nat)) < D.2.2.1) (hl0 : jset (i : Nat) (pI x) lv = lv') (k : JW Kt B A l D a Q mc ms w ce sl (pc + 2) lv' st) : JW Kt B A l D a Q mc ms w ce sl pc lv (pI x :: st) := by
  intro p e s m below meth c H locs ls X hr hlk hn hK hB hS hl
  obtain ⟨ls', e', h'⟩ := jl_store hl hn0 hl0
  exact jw_istore X.1 X.2.1 hd e' (k p e s m below meth c H locs ls' X hr hlk hn hK hB hS h')
theorem j_lstore_n {i : Fin 4} {x : Int} (hd : decode D.2.1 pc = .ok (.lstore_n i, 1)) (lv' : List (Nat × PV)) (hn0 : (if jcat (pL x) = 2 then (i : Nat) + 1 else (i : Nat)) < D.2.2.1) (hl0 : jset (i : Nat) (pL x) lv = lv') (k : JW Kt B A l D a Q mc ms w ce sl (pc + 1) lv' st) : JW Kt B A l D a Q mc ms w ce sl pc lv (pL x :: st) := by
  intro p e s m below meth c H locs ls X hr hlk hn hK hB hS hl
  obtain ⟨ls', e', h'⟩ := jl_store hl hn0 hl0
  exact jw_lstore_n X.1 X.2.1 hd e' (k p e s m below meth c H locs ls' X hr hlk hn hK hB hS h')
theorem j_lstore {i : Nat} {x : Int} (hd : decode D.2.1 pc = .ok (.lstore i, 2)) (lv' : List (Nat × PV)) (hn0 : (if jcat (pL x) = 2 then (i : Nat) + 1 else (i : Nat)) < D.2.2.1) (hl0 : jset (i : Nat) (pL x) lv = lv') (k : JW Kt B A l D a Q mc ms w ce sl (pc + 2) lv' st) : JW Kt B A l D a Q mc ms w ce sl pc lv (pL x :: st) := by
  intro p e s m below meth c H locs ls X hr hlk hn hK hB hS hl
  obtain ⟨ls', e', h'⟩ := jl_store hl hn0 hl0
  exact jw_lstore X.1 X.2.1 hd e' (k p e s m below meth c H locs ls' X hr hlk hn hK hB hS h')
theorem j_astore_n {i : Fin 4} {x : Option Nat} (hd : decode D.2.1 pc = .ok (.astore_n i, 1)) (lv' : List (Nat × PV)) (hn0 : (if jcat (pR x) = 2 then (i : Nat) + 1 else (i : Nat)) < D.2.2.1) (hl0 : jset (i : Nat) (pR x) lv = lv') (k : JW Kt B A l D a Q mc ms w ce sl (pc + 1) lv' st) : JW Kt B A l D a Q mc ms w ce sl pc lv (pR x :: st) := by
  intro p e s m below meth c H locs ls X hr hlk hn hK hB hS hl
  obtain ⟨ls', e', h'⟩ := jl_store hl hn0 hl0
  cases x with
  | none => exact jw_astore_nN X.1 X.2.1 hd e' (k p e s m below meth c H locs ls' X hr hlk hn hK hB hS h')
  | some b => exact jw_astore_n X.1 X.2.1 hd e' (k p e s m below meth c H locs ls' X hr hlk hn hK hB hS h')
theorem j_astore {i : Nat} {x : Option Nat} (hd : decode D.2.1 pc = .ok (.astore i, 2)) (lv' : List (Nat × PV)) (hn0 : (if jcat (pR x) = 2 then (i : Nat) + 1 else (i : Nat)) < D.2.2.1) (hl0 : jset (i : Nat) (pR x) lv = lv') (k : JW Kt B A l D a Q mc ms w ce sl (pc + 2) lv' st) : JW Kt B A l D a Q mc ms w ce sl pc lv (pR x :: st) := by
  intro p e s m below meth c H locs ls X hr hlk hn hK hB hS hl
  obtain ⟨ls', e', h'⟩ := jl_store hl hn0 hl0
  cases x with
  | none => exact jw_astoreN X.1 X.2.1 hd e' (k p e s m below meth c H locs ls' X hr hlk hn hK hB hS h')
  | some b => exact jw_astore X.1 X.2.1 hd e' (k p e s m below meth c H locs ls' X hr hlk hn hK hB hS h')
theorem j_sub (ks : List Nat) (lv' : List (Nat × PV)) (hk : ks.filterMap (fun k => lv[k]?) = lv') (k : JW Kt B A l D a Q mc ms w ce sl pc lv' st) : JW Kt B A l D a Q mc ms w ce sl pc lv st := by
  intro p e s m below meth c H locs ls X hr hlk hn hK hB hS hl
  exact k p e s m below meth c H locs ls X hr hlk hn hK hB hS (jl_pick hl ks hk)
theorem j_iinc {i : Nat} {n x : Int} (hd : decode D.2.1 pc = .ok (.iinc i n, 3)) (q : Nat) (hq : lv[q]? = some (i, pI x)) (lv' : List (Nat × PV)) (hn0 : i < D.2.2.1) (hl0 : jset i (pI (x + n)) lv = lv') (k : JW Kt B A l D a Q mc ms w ce sl (pc + 3) lv' st) : JW Kt B A l D a Q mc ms w ce sl pc lv st := by
  intro p e s m below meth c H locs ls X hr hlk hn hK hB hS hl
  obtain ⟨ls', e', h'⟩ := jl_store hl (v := pI (x + n)) hn0 hl0
  have h9 := jl_at hl q hq
  have e2 : storeLocals ls i (.int (jI x + Int32.ofInt n)) = some ls' := by rw [← Int32.ofInt_add]; exact e'
  exact jw_iinc X.1 X.2.1 hd h9 e2 (k p e s m below meth c H locs ls' X hr hlk hn hK hB hS h')
theorem j_iadd {x y : Int} (hd : decode D.2.1 pc = .ok (.iadd, 1)) (k : JW Kt B A l D a Q mc ms w ce sl (pc + 1) lv (pI (x + y) :: st)) : JW Kt B A l D a Q mc ms w ce sl pc lv (pI y :: pI x :: st) := by
  intro p e s m below meth c H locs ls X hr hlk hn hK hB hS hl
  have h := k p e s m below meth c H locs ls X hr hlk hn hK hB hS hl
  refine lv_iadd X.1 X.2.1 hd ?_
  rw [← Int32.ofInt_add]
  exact h
theorem j_ladd {x y : Int} (hd : decode D.2.1 pc = .ok (.ladd, 1)) (k : JW Kt B A l D a Q mc ms w ce sl (pc + 1) lv (pL (x + y) :: st)) : JW Kt B A l D a Q mc ms w ce sl pc lv (pL y :: pL x :: st) := by
  intro p e s m below meth c H locs ls X hr hlk hn hK hB hS hl
  have h := k p e s m below meth c H locs ls X hr hlk hn hK hB hS hl
  refine lv_ladd X.1 X.2.1 hd ?_
  rw [← Int64.ofInt_add]
  exact h
theorem j_isub {x y : Int} (hd : decode D.2.1 pc = .ok (.isub, 1)) (k : JW Kt B A l D a Q mc ms w ce sl (pc + 1) lv (pI (x - y) :: st)) : JW Kt B A l D a Q mc ms w ce sl pc lv (pI y :: pI x :: st) := by
  intro p e s m below meth c H locs ls X hr hlk hn hK hB hS hl
  have h := k p e s m below meth c H locs ls X hr hlk hn hK hB hS hl
  refine lv_isub X.1 X.2.1 hd ?_
  rw [← Int32.ofInt_sub]
  exact h
theorem j_lsub {x y : Int} (hd : decode D.2.1 pc = .ok (.lsub, 1)) (k : JW Kt B A l D a Q mc ms w ce sl (pc + 1) lv (pL (x - y) :: st)) : JW Kt B A l D a Q mc ms w ce sl pc lv (pL y :: pL x :: st) := by
  intro p e s m below meth c H locs ls X hr hlk hn hK hB hS hl
  have h := k p e s m below meth c H locs ls X hr hlk hn hK hB hS hl
  refine lv_lsub X.1 X.2.1 hd ?_
  rw [← Int64.ofInt_sub]
  exact h
theorem j_imul {x y : Int} (hd : decode D.2.1 pc = .ok (.imul, 1)) (k : JW Kt B A l D a Q mc ms w ce sl (pc + 1) lv (pI (x * y) :: st)) : JW Kt B A l D a Q mc ms w ce sl pc lv (pI y :: pI x :: st) := by
  intro p e s m below meth c H locs ls X hr hlk hn hK hB hS hl
  have h := k p e s m below meth c H locs ls X hr hlk hn hK hB hS hl
  refine lv_imul X.1 X.2.1 hd ?_
  rw [← Int32.ofInt_mul]
  exact h
theorem j_lmul {x y : Int} (hd : decode D.2.1 pc = .ok (.lmul, 1)) (k : JW Kt B A l D a Q mc ms w ce sl (pc + 1) lv (pL (x * y) :: st)) : JW Kt B A l D a Q mc ms w ce sl pc lv (pL y :: pL x :: st) := by
  intro p e s m below meth c H locs ls X hr hlk hn hK hB hS hl
  have h := k p e s m below meth c H locs ls X hr hlk hn hK hB hS hl
  refine lv_lmul X.1 X.2.1 hd ?_
  rw [← Int64.ofInt_mul]
  exact h
theorem j_iand {x y : Int} (hd : decode D.2.1 pc = .ok (.iand, 1)) (k : JW Kt B A l D a Q mc ms w ce sl (pc + 1) lv (pI (and32 x y) :: st)) : JW Kt B A l D a Q mc ms w ce sl pc lv (pI y :: pI x :: st) := by
  intro p e s m below meth c H locs ls X hr hlk hn hK hB hS hl
  refine lv_iand X.1 X.2.1 hd ?_
  have h := k p e s m below meth c H locs ls X hr hlk hn hK hB hS hl
  have e9 : mv (pI (and32 x y)) = .int _ := congrArg Value.int (Int32.ofInt_toInt _)
  rw [List.map_cons, e9] at h
  exact h
theorem j_ior {x y : Int} (hd : decode D.2.1 pc = .ok (.ior, 1)) (k : JW Kt B A l D a Q mc ms w ce sl (pc + 1) lv (pI (or32 x y) :: st)) : JW Kt B A l D a Q mc ms w ce sl pc lv (pI y :: pI x :: st) := by
  intro p e s m below meth c H locs ls X hr hlk hn hK hB hS hl
  refine lv_ior X.1 X.2.1 hd ?_
  have h := k p e s m below meth c H locs ls X hr hlk hn hK hB hS hl
  have e9 : mv (pI (or32 x y)) = .int _ := congrArg Value.int (Int32.ofInt_toInt _)
  rw [List.map_cons, e9] at h
  exact h
theorem j_ixor {x y : Int} (hd : decode D.2.1 pc = .ok (.ixor, 1)) (k : JW Kt B A l D a Q mc ms w ce sl (pc + 1) lv (pI (xor32 x y) :: st)) : JW Kt B A l D a Q mc ms w ce sl pc lv (pI y :: pI x :: st) := by
  intro p e s m below meth c H locs ls X hr hlk hn hK hB hS hl
  refine lv_ixor X.1 X.2.1 hd ?_
  have h := k p e s m below meth c H locs ls X hr hlk hn hK hB hS hl
  have e9 : mv (pI (xor32 x y)) = .int _ := congrArg Value.int (Int32.ofInt_toInt _)
  rw [List.map_cons, e9] at h
  exact h
theorem j_ishl {x y : Int} (hd : decode D.2.1 pc = .ok (.ishl, 1)) (k : JW Kt B A l D a Q mc ms w ce sl (pc + 1) lv (pI (shl32 x y) :: st)) : JW Kt B A l D a Q mc ms w ce sl pc lv (pI y :: pI x :: st) := by
  intro p e s m below meth c H locs ls X hr hlk hn hK hB hS hl
  refine lv_ishl X.1 X.2.1 hd ?_
  have h := k p e s m below meth c H locs ls X hr hlk hn hK hB hS hl
  have e9 : mv (pI (shl32 x y)) = .int _ := congrArg Value.int (Int32.ofInt_toInt _)
  rw [List.map_cons, e9] at h
  exact h
theorem j_ishr {x y : Int} (hd : decode D.2.1 pc = .ok (.ishr, 1)) (k : JW Kt B A l D a Q mc ms w ce sl (pc + 1) lv (pI (shr32 x y) :: st)) : JW Kt B A l D a Q mc ms w ce sl pc lv (pI y :: pI x :: st) := by
  intro p e s m below meth c H locs ls X hr hlk hn hK hB hS hl
  refine lv_ishr X.1 X.2.1 hd ?_
  have h := k p e s m below meth c H locs ls X hr hlk hn hK hB hS hl
  have e9 : mv (pI (shr32 x y)) = .int _ := congrArg Value.int (Int32.ofInt_toInt _)
  rw [List.map_cons, e9] at h
  exact h
theorem j_land {x y : Int} (hd : decode D.2.1 pc = .ok (.land, 1)) (k : JW Kt B A l D a Q mc ms w ce sl (pc + 1) lv (pL (and64 x y) :: st)) : JW Kt B A l D a Q mc ms w ce sl pc lv (pL y :: pL x :: st) := by
  intro p e s m below meth c H locs ls X hr hlk hn hK hB hS hl
  refine lv_land X.1 X.2.1 hd ?_
  have h := k p e s m below meth c H locs ls X hr hlk hn hK hB hS hl
  have e9 : mv (pL (and64 x y)) = .long _ := congrArg Value.long (Int64.ofInt_toInt _)
  rw [List.map_cons, e9] at h
  exact h
theorem j_lor {x y : Int} (hd : decode D.2.1 pc = .ok (.lor, 1)) (k : JW Kt B A l D a Q mc ms w ce sl (pc + 1) lv (pL (or64 x y) :: st)) : JW Kt B A l D a Q mc ms w ce sl pc lv (pL y :: pL x :: st) := by
  intro p e s m below meth c H locs ls X hr hlk hn hK hB hS hl
  refine lv_lor X.1 X.2.1 hd ?_
  have h := k p e s m below meth c H locs ls X hr hlk hn hK hB hS hl
  have e9 : mv (pL (or64 x y)) = .long _ := congrArg Value.long (Int64.ofInt_toInt _)
  rw [List.map_cons, e9] at h
  exact h
theorem j_lshl {x y : Int} (hd : decode D.2.1 pc = .ok (.lshl, 1)) (k : JW Kt B A l D a Q mc ms w ce sl (pc + 1) lv (pL (shl64 x y) :: st)) : JW Kt B A l D a Q mc ms w ce sl pc lv (pI y :: pL x :: st) := by
  intro p e s m below meth c H locs ls X hr hlk hn hK hB hS hl
  refine lv_lshl X.1 X.2.1 hd rfl ?_
  have h := k p e s m below meth c H locs ls X hr hlk hn hK hB hS hl
  have e9 : mv (pL (shl64 x y)) = .long _ := congrArg Value.long (Int64.ofInt_toInt _)
  rw [List.map_cons, e9] at h
  exact h
theorem j_lshr {x y : Int} (hd : decode D.2.1 pc = .ok (.lshr, 1)) (k : JW Kt B A l D a Q mc ms w ce sl (pc + 1) lv (pL (shr64 x y) :: st)) : JW Kt B A l D a Q mc ms w ce sl pc lv (pI y :: pL x :: st) := by
  intro p e s m below meth c H locs ls X hr hlk hn hK hB hS hl
  refine lv_lshr X.1 X.2.1 hd rfl ?_
  have h := k p e s m below meth c H locs ls X hr hlk hn hK hB hS hl
  have e9 : mv (pL (shr64 x y)) = .long _ := congrArg Value.long (Int64.ofInt_toInt _)
  rw [List.map_cons, e9] at h
  exact h
theorem j_lushr {x y : Int} (hd : decode D.2.1 pc = .ok (.lushr, 1)) (k : JW Kt B A l D a Q mc ms w ce sl (pc + 1) lv (pL (ushr64 x y) :: st)) : JW Kt B A l D a Q mc ms w ce sl pc lv (pI y :: pL x :: st) := by
  intro p e s m below meth c H locs ls X hr hlk hn hK hB hS hl
  refine lv_lushr X.1 X.2.1 hd rfl ?_
  have h := k p e s m below meth c H locs ls X hr hlk hn hK hB hS hl
  have e9 : mv (pL (ushr64 x y)) = .long _ := congrArg Value.long (Int64.ofInt_toInt _)
  rw [List.map_cons, e9] at h
  exact h
theorem j_iushr {x y : Int} (hd : decode D.2.1 pc = .ok (.iushr, 1)) (k : JW Kt B A l D a Q mc ms w ce sl (pc + 1) lv (pI (ushr32 x y) :: st)) : JW Kt B A l D a Q mc ms w ce sl pc lv (pI y :: pI x :: st) := by
  intro p e s m below meth c H locs ls X hr hlk hn hK hB hS hl
  refine lv_iushr X.1 X.2.1 hd rfl ?_
  have h := k p e s m below meth c H locs ls X hr hlk hn hK hB hS hl
  have e9 : mv (pI (ushr32 x y)) = .int _ := congrArg Value.int (Int32.ofInt_toInt _)
  rw [List.map_cons, e9] at h
  exact h
theorem j_idiv {x y : Int} (hd : decode D.2.1 pc = .ok (.idiv, 1)) (hy : ¬ w32 y = 0) (k : JW Kt B A l D a Q mc ms w ce sl (pc + 1) lv (pI (div32 x y) :: st)) : JW Kt B A l D a Q mc ms w ce sl pc lv (pI y :: pI x :: st) := by
  intro p e s m below meth c H locs ls X hr hlk hn hK hB hS hl
  have h := k p e s m below meth c H locs ls X hr hlk hn hK hB hS hl
  refine lv_idiv X.1 X.2.1 hd (fun q => hy (I_eq.mp (q.trans (show (0 : Int32) = jI 0 from rfl)))) ?_
  rw [I_div]
  exact h
theorem j_irem {x y : Int} (hd : decode D.2.1 pc = .ok (.irem, 1)) (hy : ¬ w32 y = 0) (k : JW Kt B A l D a Q mc ms w ce sl (pc + 1) lv (pI (rem32 x y) :: st)) : JW Kt B A l D a Q mc ms w ce sl pc lv (pI y :: pI x :: st) := by
  intro p e s m below meth c H locs ls X hr hlk hn hK hB hS hl
  have h := k p e s m below meth c H locs ls X hr hlk hn hK hB hS hl
  refine lv_irem X.1 X.2.1 hd (fun q => hy (I_eq.mp (q.trans (show (0 : Int32) = jI 0 from rfl)))) ?_
  rw [I_rem]
  exact h
theorem j_ldiv {x y : Int} (hd : decode D.2.1 pc = .ok (.ldiv, 1)) (hy : ¬ w64 y = 0) (k : JW Kt B A l D a Q mc ms w ce sl (pc + 1) lv (pL (div64 x y) :: st)) : JW Kt B A l D a Q mc ms w ce sl pc lv (pL y :: pL x :: st) := by
  intro p e s m below meth c H locs ls X hr hlk hn hK hB hS hl
  have h := k p e s m below meth c H locs ls X hr hlk hn hK hB hS hl
  refine lv_ldiv X.1 X.2.1 hd (fun q => hy (L_eq.mp (q.trans (show (0 : Int64) = jL 0 from rfl)))) ?_
  rw [L_div]
  exact h
theorem j_lrem {x y : Int} (hd : decode D.2.1 pc = .ok (.lrem, 1)) (hy : ¬ w64 y = 0) (k : JW Kt B A l D a Q mc ms w ce sl (pc + 1) lv (pL (rem64 x y) :: st)) : JW Kt B A l D a Q mc ms w ce sl pc lv (pL y :: pL x :: st) := by
  intro p e s m below meth c H locs ls X hr hlk hn hK hB hS hl
  have h := k p e s m below meth c H locs ls X hr hlk hn hK hB hS hl
  refine lv_lrem X.1 X.2.1 hd (fun q => hy (L_eq.mp (q.trans (show (0 : Int64) = jL 0 from rfl)))) ?_
  rw [L_rem]
  exact h
theorem j_ineg {x : Int} (hd : decode D.2.1 pc = .ok (.ineg, 1)) (k : JW Kt B A l D a Q mc ms w ce sl (pc + 1) lv (pI (-x) :: st)) : JW Kt B A l D a Q mc ms w ce sl pc lv (pI x :: st) := by
  intro p e s m below meth c H locs ls X hr hlk hn hK hB hS hl
  have h := k p e s m below meth c H locs ls X hr hlk hn hK hB hS hl
  refine lv_ineg X.1 X.2.1 hd ?_
  rw [← Int32.ofInt_neg]
  exact h
theorem j_lneg {x : Int} (hd : decode D.2.1 pc = .ok (.lneg, 1)) (k : JW Kt B A l D a Q mc ms w ce sl (pc + 1) lv (pL (-x) :: st)) : JW Kt B A l D a Q mc ms w ce sl pc lv (pL x :: st) := by
  intro p e s m below meth c H locs ls X hr hlk hn hK hB hS hl
  have h := k p e s m below meth c H locs ls X hr hlk hn hK hB hS hl
  refine lv_lneg X.1 X.2.1 hd ?_
  rw [← Int64.ofInt_neg]
  exact h
theorem j_i2l {x : Int} (hd : decode D.2.1 pc = .ok (.i2l, 1)) (k : JW Kt B A l D a Q mc ms w ce sl (pc + 1) lv (pL (w32 x) :: st)) : JW Kt B A l D a Q mc ms w ce sl pc lv (pI x :: st) := by
  intro p e s m below meth c H locs ls X hr hlk hn hK hB hS hl
  exact lv_i2l X.1 X.2.1 hd (I_i2l x) (k p e s m below meth c H locs ls X hr hlk hn hK hB hS hl)
theorem j_l2i {x : Int} (hd : decode D.2.1 pc = .ok (.l2i, 1)) (k : JW Kt B A l D a Q mc ms w ce sl (pc + 1) lv (pI x :: st)) : JW Kt B A l D a Q mc ms w ce sl pc lv (pL x :: st) := by
  intro p e s m below meth c H locs ls X hr hlk hn hK hB hS hl
  exact lv_l2i X.1 X.2.1 hd (L_l2i x) (k p e s m below meth c H locs ls X hr hlk hn hK hB hS hl)
theorem j_i2b {x : Int} (hd : decode D.2.1 pc = .ok (.i2b, 1)) (k : JW Kt B A l D a Q mc ms w ce sl (pc + 1) lv (pI (w8 x) :: st)) : JW Kt B A l D a Q mc ms w ce sl pc lv (pI x :: st) := by
  intro p e s m below meth c H locs ls X hr hlk hn hK hB hS hl
  exact lv_i2b X.1 X.2.1 hd (I_i2b x) (k p e s m below meth c H locs ls X hr hlk hn hK hB hS hl)
theorem j_i2c {x : Int} (hd : decode D.2.1 pc = .ok (.i2c, 1)) (k : JW Kt B A l D a Q mc ms w ce sl (pc + 1) lv (pI (chr16 x) :: st)) : JW Kt B A l D a Q mc ms w ce sl pc lv (pI x :: st) := by
  intro p e s m below meth c H locs ls X hr hlk hn hK hB hS hl
  exact lv_i2c X.1 X.2.1 hd (Int32.ofInt_toInt _).symm (k p e s m below meth c H locs ls X hr hlk hn hK hB hS hl)
theorem j_lcmp {x y : Int} (hd : decode D.2.1 pc = .ok (.lcmp, 1)) (k : JW Kt B A l D a Q mc ms w ce sl (pc + 1) lv (pI (cmp64 x y) :: st)) : JW Kt B A l D a Q mc ms w ce sl pc lv (pL y :: pL x :: st) := by
  intro p e s m below meth c H locs ls X hr hlk hn hK hB hS hl
  have h := k p e s m below meth c H locs ls X hr hlk hn hK hB hS hl
  refine W.lcmp X.1 X.2.1 hd ?_
  rw [L_cmp]
  exact h
theorem j_dup {u : PV} (hd : decode D.2.1 pc = .ok (.dup, 1)) (hu : jcat u = 1) (k : JW Kt B A l D a Q mc ms w ce sl (pc + 1) lv (u :: u :: st)) : JW Kt B A l D a Q mc ms w ce sl pc lv (u :: st) := by
  intro p e s m below meth c H locs ls X hr hlk hn hK hB hS hl
  exact lv_dup X.1 X.2.1 hd (by rw [mv_cat]; exact hu) (k p e s m below meth c H locs ls X hr hlk hn hK hB hS hl)
theorem j_pop {u : PV} (hd : decode D.2.1 pc = .ok (.pop, 1)) (hu : jcat u = 1) (k : JW Kt B A l D a Q mc ms w ce sl (pc + 1) lv (st)) : JW Kt B A l D a Q mc ms w ce sl pc lv (u :: st) := by
  intro p e s m below meth c H locs ls X hr hlk hn hK hB hS hl
  exact lv_pop X.1 X.2.1 hd (by rw [mv_cat]; exact hu) (k p e s m below meth c H locs ls X hr hlk hn hK hB hS hl)
theorem j_dup_x1 {u v : PV} (hd : decode D.2.1 pc = .ok (.dup_x1, 1)) (hu : jcat u = 1) (hv : jcat v = 1) (k : JW Kt B A l D a Q mc ms w ce sl (pc + 1) lv (u :: v :: u :: st)) : JW Kt B A l D a Q mc ms w ce sl pc lv (u :: v :: st) := by
  intro p e s m below meth c H locs ls X hr hlk hn hK hB hS hl
  exact lv_dup_x1 X.1 X.2.1 hd (by rw [mv_cat]; exact hu) (by rw [mv_cat]; exact hv) (k p e s m below meth c H locs ls X hr hlk hn hK hB hS hl)
theorem j_dup2_11 {u v : PV} (hd : decode D.2.1 pc = .ok (.dup2, 1)) (hu : jcat u = 1) (hv : jcat v = 1) (k : JW Kt B A l D a Q mc ms w ce sl (pc + 1) lv (u :: v :: u :: v :: st)) : JW Kt B A l D a Q mc ms w ce sl pc lv (u :: v :: st) := by
  intro p e s m below meth c H locs ls X hr hlk hn hK hB hS hl
  exact lv_dup2_11 X.1 X.2.1 hd (by rw [mv_cat]; exact hu) (by rw [mv_cat]; exact hv) (k p e s m below meth c H locs ls X hr hlk hn hK hB hS hl)
theorem j_dup_x2 {u v z : PV} (hd : decode D.2.1 pc = .ok (.dup_x2, 1)) (hu : jcat u = 1) (hv : jcat v = 1) (hz : jcat z = 1) (k : JW Kt B A l D a Q mc ms w ce sl (pc + 1) lv (u :: v :: z :: u :: st)) : JW Kt B A l D a Q mc ms w ce sl pc lv (u :: v :: z :: st) := by
  intro p e s m below meth c H locs ls X hr hlk hn hK hB hS hl
  exact lv_dup_x2 X.1 X.2.1 hd (by rw [mv_cat]; exact hu) (by rw [mv_cat]; exact hv) (by rw [mv_cat]; exact hz) (k p e s m below meth c H locs ls X hr hlk hn hK hB hS hl)
theorem j_dup2_2 {u : PV} (hd : decode D.2.1 pc = .ok (.dup2, 1)) (hu : jcat u = 2) (k : JW Kt B A l D a Q mc ms w ce sl (pc + 1) lv (u :: u :: st)) : JW Kt B A l D a Q mc ms w ce sl pc lv (u :: st) := by
  intro p e s m below meth c H locs ls X hr hlk hn hK hB hS hl
  exact lv_dup2_2 X.1 X.2.1 hd (by rw [mv_cat]; exact hu) (k p e s m below meth c H locs ls X hr hlk hn hK hB hS hl)
theorem j_icmp_eq {x y : Int} (x' y' : Int) (hx : w32 x = x') (hy : w32 y = y') {off : Int} (tgt : Nat) (hd : decode D.2.1 pc = .ok (.if_icmp .eq off, 3)) (ht : (pc : Int) + off = (tgt : Int)) (kt : x' = y' → JW Kt B A l D a Q mc ms w ce sl tgt lv st) (kf : ¬ x' = y' → JW Kt B A l D a Q mc ms w ce sl (pc + 3) lv st) : JW Kt B A l D a Q mc ms w ce sl pc lv (pI y :: pI x :: st) := by
  intro p e s m below meth c H locs ls X hr hlk hn hK hB hS hl
  refine lv_icmp_eq X.1 X.2.1 hd ht (fun q => ?_) (fun q => ?_)
  · have h9 := I_eq.mp q
    rw [hx, hy] at h9
    exact kt h9 p e s m below meth c H locs ls X hr hlk hn hK hB hS hl
  · have h9 : ¬ x' = y' := fun z => q (I_eq.mpr (by rw [hx, hy]; exact z))
    exact kf h9 p e s m below meth c H locs ls X hr hlk hn hK hB hS hl
theorem j_if_eq {x : Int} (x' : Int) (hx : w32 x = x') {off : Int} (tgt : Nat) (hd : decode D.2.1 pc = .ok (.ifCond .eq off, 3)) (ht : (pc : Int) + off = (tgt : Int)) (kt : x' = 0 → JW Kt B A l D a Q mc ms w ce sl tgt lv st) (kf : ¬ x' = 0 → JW Kt B A l D a Q mc ms w ce sl (pc + 3) lv st) : JW Kt B A l D a Q mc ms w ce sl pc lv (pI x :: st) := by
  intro p e s m below meth c H locs ls X hr hlk hn hK hB hS hl
  have hy : w32 0 = 0 := rfl
  refine lv_if_eq X.1 X.2.1 hd ht (fun q => ?_) (fun q => ?_)
  · have h9 := I_eq.mp (show jI x = jI 0 from q)
    rw [hx, hy] at h9
    exact kt h9 p e s m below meth c H locs ls X hr hlk hn hK hB hS hl
  · have h9 : ¬ x' = 0 := fun z => q (show jI x = jI 0 from I_eq.mpr (by rw [hx, hy]; exact z))
    exact kf h9 p e s m below meth c H locs ls X hr hlk hn hK hB hS hl
theorem j_icmp_ne {x y : Int} (x' y' : Int) (hx : w32 x = x') (hy : w32 y = y') {off : Int} (tgt : Nat) (hd : decode D.2.1 pc = .ok (.if_icmp .ne off, 3)) (ht : (pc : Int) + off = (tgt : Int)) (kt : ¬ x' = y' → JW Kt B A l D a Q mc ms w ce sl tgt lv st) (kf : x' = y' → JW Kt B A l D a Q mc ms w ce sl (pc + 3) lv st) : JW Kt B A l D a Q mc ms w ce sl pc lv (pI y :: pI x :: st) := by
  intro p e s m below meth c H locs ls X hr hlk hn hK hB hS hl
  refine lv_icmp_ne X.1 X.2.1 hd ht (fun q => ?_) (fun q => ?_)
  · have h9 : ¬ x' = y' := fun z => q (I_eq.mpr (by rw [hx, hy]; exact z))
    exact kt h9 p e s m below meth c H locs ls X hr hlk hn hK hB hS hl
  · have h9 := I_eq.mp q
    rw [hx, hy] at h9
    exact kf h9 p e s m below meth c H locs ls X hr hlk hn hK hB hS hl
theorem j_if_ne {x : Int} (x' : Int) (hx : w32 x = x') {off : Int} (tgt : Nat) (hd : decode D.2.1 pc = .ok (.ifCond .ne off, 3)) (ht : (pc : Int) + off = (tgt : Int)) (kt : ¬ x' = 0 → JW Kt B A l D a Q mc ms w ce sl tgt lv st) (kf : x' = 0 → JW Kt B A l D a Q mc ms w ce sl (pc + 3) lv st) : JW Kt B A l D a Q mc ms w ce sl pc lv (pI x :: st) := by
  intro p e s m below meth c H locs ls X hr hlk hn hK hB hS hl
  have hy : w32 0 = 0 := rfl
  refine lv_if_ne X.1 X.2.1 hd ht (fun q => ?_) (fun q => ?_)
  · have h9 : ¬ x' = 0 := fun z => q (show jI x = jI 0 from I_eq.mpr (by rw [hx, hy]; exact z))
    exact kt h9 p e s m below meth c H locs ls X hr hlk hn hK hB hS hl
  · have h9 := I_eq.mp (show jI x = jI 0 from q)
    rw [hx, hy] at h9
    exact kf h9 p e s m below meth c H locs ls X hr hlk hn hK hB hS hl
theorem j_icmp_lt {x y : Int} (x' y' : Int) (hx : w32 x = x') (hy : w32 y = y') {off : Int} (tgt : Nat) (hd : decode D.2.1 pc = .ok (.if_icmp .lt off, 3)) (ht : (pc : Int) + off = (tgt : Int)) (kt : x' < y' → JW Kt B A l D a Q mc ms w ce sl tgt lv st) (kf : ¬ x' < y' → JW Kt B A l D a Q mc ms w ce sl (pc + 3) lv st) : JW Kt B A l D a Q mc ms w ce sl pc lv (pI y :: pI x :: st) := by
  intro p e s m below meth c H locs ls X hr hlk hn hK hB hS hl
  refine lv_icmp_lt X.1 X.2.1 hd ht (fun q => ?_) (fun q => ?_)
  · have h9 := I_lt.mp q
    rw [hx, hy] at h9
    exact kt h9 p e s m below meth c H locs ls X hr hlk hn hK hB hS hl
  · have h9 : ¬ x' < y' := fun z => q (I_lt.mpr (by rw [hx, hy]; exact z))
    exact kf h9 p e s m below meth c H locs ls X hr hlk hn hK hB hS hl
theorem j_if_lt {x : Int} (x' : Int) (hx : w32 x = x') {off : Int} (tgt : Nat) (hd : decode D.2.1 pc = .ok (.ifCond .lt off, 3)) (ht : (pc : Int) + off = (tgt : Int)) (kt : x' < 0 → JW Kt B A l D a Q mc ms w ce sl tgt lv st) (kf : ¬ x' < 0 → JW Kt B A l D a Q mc ms w ce sl (pc + 3) lv st) : JW Kt B A l D a Q mc ms w ce sl pc lv (pI x :: st) := by
  intro p e s m below meth c H locs ls X hr hlk hn hK hB hS hl
  have hy : w32 0 = 0 := rfl
  refine lv_if_lt X.1 X.2.1 hd ht (fun q => ?_) (fun q => ?_)
  · have h9 := I_lt.mp (show jI x < jI 0 from q)
    rw [hx, hy] at h9
    exact kt h9 p e s m below meth c H locs ls X hr hlk hn hK hB hS hl
  · have h9 : ¬ x' < 0 := fun z => q (show jI x < jI 0 from I_lt.mpr (by rw [hx, hy]; exact z))
    exact kf h9 p e s m below meth c H locs ls X hr hlk hn hK hB hS hl
theorem j_icmp_ge {x y : Int} (x' y' : Int) (hx : w32 x = x') (hy : w32 y = y') {off : Int} (tgt : Nat) (hd : decode D.2.1 pc = .ok (.if_icmp .ge off, 3)) (ht : (pc : Int) + off = (tgt : Int)) (kt : y' ≤ x' → JW Kt B A l D a Q mc ms w ce sl tgt lv st) (kf : ¬ y' ≤ x' → JW Kt B A l D a Q mc ms w ce sl (pc + 3) lv st) : JW Kt B A l D a Q mc ms w ce sl pc lv (pI y :: pI x :: st) := by
  intro p e s m below meth c H locs ls X hr hlk hn hK hB hS hl
  refine lv_icmp_ge X.1 X.2.1 hd ht (fun q => ?_) (fun q => ?_)
  · have h9 := I_le.mp q
    rw [hx, hy] at h9
    exact kt h9 p e s m below meth c H locs ls X hr hlk hn hK hB hS hl
  · have h9 : ¬ y' ≤ x' := fun z => q (I_le.mpr (by rw [hx, hy]; exact z))
    exact kf h9 p e s m below meth c H locs ls X hr hlk hn hK hB hS hl
theorem j_if_ge {x : Int} (x' : Int) (hx : w32 x = x') {off : Int} (tgt : Nat) (hd : decode D.2.1 pc = .ok (.ifCond .ge off, 3)) (ht : (pc : Int) + off = (tgt : Int)) (kt : 0 ≤ x' → JW Kt B A l D a Q mc ms w ce sl tgt lv st) (kf : ¬ 0 ≤ x' → JW Kt B A l D a Q mc ms w ce sl (pc + 3) lv st) : JW Kt B A l D a Q mc ms w ce sl pc lv (pI x :: st) := by
  intro p e s m below meth c H locs ls X hr hlk hn hK hB hS hl
  have hy : w32 0 = 0 := rfl
  refine lv_if_ge X.1 X.2.1 hd ht (fun q => ?_) (fun q => ?_)
  · have h9 := I_le.mp (show jI 0 ≤ jI x from q)
    rw [hx, hy] at h9
    exact kt h9 p e s m below meth c H locs ls X hr hlk hn hK hB hS hl
  · have h9 : ¬ 0 ≤ x' := fun z => q (show jI 0 ≤ jI x from I_le.mpr (by rw [hx, hy]; exact z))
    exact kf h9 p e s m below meth c H locs ls X hr hlk hn hK hB hS hl
theorem j_icmp_gt {x y : Int} (x' y' : Int) (hx : w32 x = x') (hy : w32 y = y') {off : Int} (tgt : Nat) (hd : decode D.2.1 pc = .ok (.if_icmp .gt off, 3)) (ht : (pc : Int) + off = (tgt : Int)) (kt : y' < x' → JW Kt B A l D a Q mc ms w ce sl tgt lv st) (kf : ¬ y' < x' → JW Kt B A l D a Q mc ms w ce sl (pc + 3) lv st) : JW Kt B A l D a Q mc ms w ce sl pc lv (pI y :: pI x :: st) := by
  intro p e s m below meth c H locs ls X hr hlk hn hK hB hS hl
  refine lv_icmp_gt X.1 X.2.1 hd ht (fun q => ?_) (fun q => ?_)
  · have h9 := I_lt.mp q
    rw [hx, hy] at h9
    exact kt h9 p e s m below meth c H locs ls X hr hlk hn hK hB hS hl
  · have h9 : ¬ y' < x' := fun z => q (I_lt.mpr (by rw [hx, hy]; exact z))
    exact kf h9 p e s m below meth c H locs ls X hr hlk hn hK hB hS hl
theorem j_if_gt {x : Int} (x' : Int) (hx : w32 x = x') {off : Int} (tgt : Nat) (hd : decode D.2.1 pc = .ok (.ifCond .gt off, 3)) (ht : (pc : Int) + off = (tgt : Int)) (kt : 0 < x' → JW Kt B A l D a Q mc ms w ce sl tgt lv st) (kf : ¬ 0 < x' → JW Kt B A l D a Q mc ms w ce sl (pc + 3) lv st) : JW Kt B A l D a Q mc ms w ce sl pc lv (pI x :: st) := by
  intro p e s m below meth c H locs ls X hr hlk hn hK hB hS hl
  have hy : w32 0 = 0 := rfl
  refine lv_if_gt X.1 X.2.1 hd ht (fun q => ?_) (fun q => ?_)
  · have h9 := I_lt.mp (show jI 0 < jI x from q)
    rw [hx, hy] at h9
    exact kt h9 p e s m below meth c H locs ls X hr hlk hn hK hB hS hl
  · have h9 : ¬ 0 < x' := fun z => q (show jI 0 < jI x from I_lt.mpr (by rw [hx, hy]; exact z))
    exact kf h9 p e s m below meth c H locs ls X hr hlk hn hK hB hS hl
theorem j_icmp_le {x y : Int} (x' y' : Int) (hx : w32 x = x') (hy : w32 y = y') {off : Int} (tgt : Nat) (hd : decode D.2.1 pc = .ok (.if_icmp .le off, 3)) (ht : (pc : Int) + off = (tgt : Int)) (kt : x' ≤ y' → JW Kt B A l D a Q mc ms w ce sl tgt lv st) (kf : ¬ x' ≤ y' → JW Kt B A l D a Q mc ms w ce sl (pc + 3) lv st) : JW Kt B A l D a Q mc ms w ce sl pc lv (pI y :: pI x :: st) := by
  intro p e s m below meth c H locs ls X hr hlk hn hK hB hS hl
  refine lv_icmp_le X.1 X.2.1 hd ht (fun q => ?_) (fun q => ?_)
  · have h9 := I_le.mp q
    rw [hx, hy] at h9
    exact kt h9 p e s m below meth c H locs ls X hr hlk hn hK hB hS hl
  · have h9 : ¬ x' ≤ y' := fun z => q (I_le.mpr (by rw [hx, hy]; exact z))
    exact kf h9 p e s m below meth c H locs ls X hr hlk hn hK hB hS hl
theorem j_if_le {x : Int} (x' : Int) (hx : w32 x = x') {off : Int} (tgt : Nat) (hd : decode D.2.1 pc = .ok (.ifCond .le off, 3)) (ht : (pc : Int) + off = (tgt : Int)) (kt : x' ≤ 0 → JW Kt B A l D a Q mc ms w ce sl tgt lv st) (kf : ¬ x' ≤ 0 → JW Kt B A l D a Q mc ms w ce sl (pc + 3) lv st) : JW Kt B A l D a Q mc ms w ce sl pc lv (pI x :: st) := by
  intro p e s m below meth c H locs ls X hr hlk hn hK hB hS hl
  have hy : w32 0 = 0 := rfl
  refine lv_if_le X.1 X.2.1 hd ht (fun q => ?_) (fun q => ?_)
  · have h9 := I_le.mp (show jI x ≤ jI 0 from q)
    rw [hx, hy] at h9
    exact kt h9 p e s m below meth c H locs ls X hr hlk hn hK hB hS hl
  · have h9 : ¬ x' ≤ 0 := fun z => q (show jI x ≤ jI 0 from I_le.mpr (by rw [hx, hy]; exact z))
    exact kf h9 p e s m below meth c H locs ls X hr hlk hn hK hB hS hl
theorem j_lc_eq {x y : Int} {off : Int} (tgt : Nat) (hd0 : decode D.2.1 pc = .ok (.lcmp, 1)) (hd : decode D.2.1 (pc + 1) = .ok (.ifCond .eq off, 3)) (ht : ((pc + 1 : Nat) : Int) + off = (tgt : Int)) (kt : w64 x = w64 y → JW Kt B A l D a Q mc ms w ce sl tgt lv st) (kf : ¬ w64 x = w64 y → JW Kt B A l D a Q mc ms w ce sl (pc + 1 + 3) lv st) : JW Kt B A l D a Q mc ms w ce sl pc lv (pL y :: pL x :: st) :=
  j_lcmp hd0 (j_if_eq (cmp64 x y) (by unfold cmp64; split <;> (try split) <;> rfl) tgt hd ht (fun h => kt (by unfold cmp64 at h; split at h <;> (try split at h) <;> omega)) (fun h => kf (by unfold cmp64 at h; split at h <;> (try split at h) <;> omega)))
theorem j_lc_ne {x y : Int} {off : Int} (tgt : Nat) (hd0 : decode D.2.1 pc = .ok (.lcmp, 1)) (hd : decode D.2.1 (pc + 1) = .ok (.ifCond .ne off, 3)) (ht : ((pc + 1 : Nat) : Int) + off = (tgt : Int)) (kt : ¬ w64 x = w64 y → JW Kt B A l D a Q mc ms w ce sl tgt lv st) (kf : w64 x = w64 y → JW Kt B A l D a Q mc ms w ce sl (pc + 1 + 3) lv st) : JW Kt B A l D a Q mc ms w ce sl pc lv (pL y :: pL x :: st) :=
  j_lcmp hd0 (j_if_ne (cmp64 x y) (by unfold cmp64; split <;> (try split) <;> rfl) tgt hd ht (fun h => kt (by unfold cmp64 at h; split at h <;> (try split at h) <;> omega)) (fun h => kf (by unfold cmp64 at h; split at h <;> (try split at h) <;> omega)))
theorem j_lc_lt {x y : Int} {off : Int} (tgt : Nat) (hd0 : decode D.2.1 pc = .ok (.lcmp, 1)) (hd : decode D.2.1 (pc + 1) = .ok (.ifCond .lt off, 3)) (ht : ((pc + 1 : Nat) : Int) + off = (tgt : Int)) (kt : w64 x < w64 y → JW Kt B A l D a Q mc ms w ce sl tgt lv st) (kf : ¬ w64 x < w64 y → JW Kt B A l D a Q mc ms w ce sl (pc + 1 + 3) lv st) : JW Kt B A l D a Q mc ms w ce sl pc lv (pL y :: pL x :: st) :=
  j_lcmp hd0 (j_if_lt (cmp64 x y) (by unfold cmp64; split <;> (try split) <;> rfl) tgt hd ht (fun h => kt (by unfold cmp64 at h; split at h <;> (try split at h) <;> omega)) (fun h => kf (by unfold cmp64 at h; split at h <;> (try split at h) <;> omega)))
theorem j_lc_ge {x y : Int} {off : Int} (tgt : Nat) (hd0 : decode D.2.1 pc = .ok (.lcmp, 1)) (hd : decode D.2.1 (pc + 1) = .ok (.ifCond .ge off, 3)) (ht : ((pc + 1 : Nat) : Int) + off = (tgt : Int)) (kt : w64 y ≤ w64 x → JW Kt B A l D a Q mc ms w ce sl tgt lv st) (kf : ¬ w64 y ≤ w64 x → JW Kt B A l D a Q mc ms w ce sl (pc + 1 + 3) lv st) : JW Kt B A l D a Q mc ms w ce sl pc lv (pL y :: pL x :: st) :=
  j_lcmp hd0 (j_if_ge (cmp64 x y) (by unfold cmp64; split <;> (try split) <;> rfl) tgt hd ht (fun h => kt (by unfold cmp64 at h; split at h <;> (try split at h) <;> omega)) (fun h => kf (by unfold cmp64 at h; split at h <;> (try split at h) <;> omega)))
theorem j_lc_gt {x y : Int} {off : Int} (tgt : Nat) (hd0 : decode D.2.1 pc = .ok (.lcmp, 1)) (hd : decode D.2.1 (pc + 1) = .ok (.ifCond .gt off, 3)) (ht : ((pc + 1 : Nat) : Int) + off = (tgt : Int)) (kt : w64 y < w64 x → JW Kt B A l D a Q mc ms w ce sl tgt lv st) (kf : ¬ w64 y < w64 x → JW Kt B A l D a Q mc ms w ce sl (pc + 1 + 3) lv st) : JW Kt B A l D a Q mc ms w ce sl pc lv (pL y :: pL x :: st) :=
  j_lcmp hd0 (j_if_gt (cmp64 x y) (by unfold cmp64; split <;> (try split) <;> rfl) tgt hd ht (fun h => kt (by unfold cmp64 at h; split at h <;> (try split at h) <;> omega)) (fun h => kf (by unfold cmp64 at h; split at h <;> (try split at h) <;> omega)))
theorem j_lc_le {x y : Int} {off : Int} (tgt : Nat) (hd0 : decode D.2.1 pc = .ok (.lcmp, 1)) (hd : decode D.2.1 (pc + 1) = .ok (.ifCond .le off, 3)) (ht : ((pc + 1 : Nat) : Int) + off = (tgt : Int)) (kt : w64 x ≤ w64 y → JW Kt B A l D a Q mc ms w ce sl tgt lv st) (kf : ¬ w64 x ≤ w64 y → JW Kt B A l D a Q mc ms w ce sl (pc + 1 + 3) lv st) : JW Kt B A l D a Q mc ms w ce sl pc lv (pL y :: pL x :: st) :=
  j_lcmp hd0 (j_if_le (cmp64 x y) (by unfold cmp64; split <;> (try split) <;> rfl) tgt hd ht (fun h => kt (by unfold cmp64 at h; split at h <;> (try split at h) <;> omega)) (fun h => kf (by unfold cmp64 at h; split at h <;> (try split at h) <;> omega)))
theorem j_goto {off : Int} (tgt : Nat) (hd : decode D.2.1 pc = .ok (.goto off, 3)) (ht : (pc : Int) + off = (tgt : Int)) (k : JW Kt B A l D a Q mc ms w ce sl tgt lv st) : JW Kt B A l D a Q mc ms w ce sl pc lv st := by
  intro p e s m below meth c H locs ls X hr hlk hn hK hB hS hl
  exact lv_goto X.1 X.2.1 hd ht (k p e s m below meth c H locs ls X hr hlk hn hK hB hS hl)
theorem j_tabOut {dflt lo hi : Int} {offs : Array Int} {len : Nat} {x : Int} (tgt : Nat) (hd : decode D.2.1 pc = .ok (.tableswitch dflt lo hi offs, len)) (h : w32 x < lo ∨ hi < w32 x) (ht : (pc : Int) + dflt = (tgt : Int)) (k : JW Kt B A l D a Q mc ms w ce sl tgt lv st) : JW Kt B A l D a Q mc ms w ce sl pc lv (pI x :: st) := by
  intro p e s m below meth c H locs ls X hr hlk hn hK hB hS hl
  exact lv_tableOut X.1 X.2.1 hd (by rw [toInt_I]; exact h) ht (k p e s m below meth c H locs ls X hr hlk hn hK hB hS hl)
theorem j_tabIn {dflt lo hi : Int} {offs : Array Int} {len : Nat} {x z off : Int} (tgt : Nat) (hd : decode D.2.1 pc = .ok (.tableswitch dflt lo hi offs, len)) (h : w32 x = z) (hz : (¬ z < lo ∧ ¬ hi < z) ∧ offs[(z - lo).toNat]? = some off) (ht : (pc : Int) + off = (tgt : Int)) (k : JW Kt B A l D a Q mc ms w ce sl tgt lv st) : JW Kt B A l D a Q mc ms w ce sl pc lv (pI x :: st) := by
  intro p e s m below meth c H locs ls X hr hlk hn hK hB hS hl
  exact lv_tableIn X.1 X.2.1 hd (by rw [toInt_I, h]; exact hz.1.1) (by rw [toInt_I, h]; exact hz.1.2) (by rw [toInt_I, h]; exact hz.2) ht (k p e s m below meth c H locs ls X hr hlk hn hK hB hS hl)
theorem j_ifnull {x : Option Nat} {off : Int} (tgt : Nat) (hd : decode D.2.1 pc = .ok (.ifnull off, 3)) (ht : (pc : Int) + off = (tgt : Int)) (kt : x = none → JW Kt B A l D a Q mc ms w ce sl tgt lv st) (kf : ¬ x = none → JW Kt B A l D a Q mc ms w ce sl (pc + 3) lv st) : JW Kt B A l D a Q mc ms w ce sl pc lv (pR x :: st) := by
  intro p e s m below meth c H locs ls X hr hlk hn hK hB hS hl
  cases x with
  | none => exact lv_ifnullN X.1 X.2.1 hd ht (kt rfl p e s m below meth c H locs ls X hr hlk hn hK hB hS hl)
  | some b => exact lv_ifnull X.1 X.2.1 hd (kf (fun q => by cases q) p e s m below meth c H locs ls X hr hlk hn hK hB hS hl)
theorem j_ifnonnull {x : Option Nat} {off : Int} (tgt : Nat) (hd : decode D.2.1 pc = .ok (.ifnonnull off, 3)) (ht : (pc : Int) + off = (tgt : Int)) (kt : ¬ x = none → JW Kt B A l D a Q mc ms w ce sl tgt lv st) (kf : x = none → JW Kt B A l D a Q mc ms w ce sl (pc + 3) lv st) : JW Kt B A l D a Q mc ms w ce sl pc lv (pR x :: st) := by
  intro p e s m below meth c H locs ls X hr hlk hn hK hB hS hl
  cases x with
  | none => exact lv_ifnonnullN X.1 X.2.1 hd (kf rfl p e s m below meth c H locs ls X hr hlk hn hK hB hS hl)
  | some b => exact lv_ifnonnull X.1 X.2.1 hd ht (kt (fun q => by cases q) p e s m below meth c H locs ls X hr hlk hn hK hB hS hl)
theorem j_acmp_eq {x y : Option Nat} {off : Int} (tgt : Nat) (hd : decode D.2.1 pc = .ok (.if_acmp .eq off, 3)) (ht : (pc : Int) + off = (tgt : Int)) (kt : x = y → JW Kt B A l D a Q mc ms w ce sl tgt lv st) (kf : ¬ x = y → JW Kt B A l D a Q mc ms w ce sl (pc + 3) lv st) : JW Kt B A l D a Q mc ms w ce sl pc lv (pR y :: pR x :: st) := by
  intro p e s m below meth c H locs ls X hr hlk hn hK hB hS hl
  exact lv_acmp_eq X.1 X.2.1 hd ht (fun h9 => kt h9 p e s m below meth c H locs ls X hr hlk hn hK hB hS hl) (fun h9 => kf h9 p e s m below meth c H locs ls X hr hlk hn hK hB hS hl)
theorem j_acmp_ne {x y : Option Nat} {off : Int} (tgt : Nat) (hd : decode D.2.1 pc = .ok (.if_acmp .ne off, 3)) (ht : (pc : Int) + off = (tgt : Int)) (kt : ¬ x = y → JW Kt B A l D a Q mc ms w ce sl tgt lv st) (kf : x = y → JW Kt B A l D a Q mc ms w ce sl (pc + 3) lv st) : JW Kt B A l D a Q mc ms w ce sl pc lv (pR y :: pR x :: st) := by
  intro p e s m below meth c H locs ls X hr hlk hn hK hB hS hl
  exact lv_acmp_ne X.1 X.2.1 hd ht (fun h9 => kt h9 p e s m below meth c H locs ls X hr hlk hn hK hB hS hl) (fun h9 => kf h9 p e s m below meth c H locs ls X hr hlk hn hK hB hS hl)
theorem j_ireturn {x : Int} (hBM : jMv B) (hcs : ce ≤ mc ∧ sl ≤ ms) (hr0 : D.2.2.2.1 = some .int) (hd : decode D.2.1 pc = .ok (.ireturn, 1)) : JW Kt B A l D a (jQ B A a (some (pI x)) w mc ms) mc ms w ce sl pc lv [pI x] := by
  intro p e s m below meth c H locs ls X hr hlk hn hK hB hS hl
  refine W.widen hcs.1 hcs.2 ?_
  exact W.iret X.1 X.2.1 (hr.trans hr0) (fun t ht hW => ⟨⟨rfl, hBM _ _ _ _ hW.alike (by rw [ht]; exact hB)⟩, hS.F ht⟩) hS.2.2 hd hlk
theorem j_zreturn {x : Int} (hBM : jMv B) (hcs : ce ≤ mc ∧ sl ≤ ms) {ty : FieldType} (hr0 : D.2.2.2.1 = some ty) (hnw : narrow ty (.int (jI x)) = .int (jI x)) (hd : decode D.2.1 pc = .ok (.ireturn, 1)) : JW Kt B A l D a (jQ B A a (some (pI x)) w mc ms) mc ms w ce sl pc lv [pI x] := by
  intro p e s m below meth c H locs ls X hr hlk hn hK hB hS hl
  refine W.widen hcs.1 hcs.2 ?_
  exact W.zret X.1 X.2.1 (hr.trans hr0) hnw (fun t ht hW => ⟨⟨rfl, hBM _ _ _ _ hW.alike (by rw [ht]; exact hB)⟩, hS.F ht⟩) hS.2.2 hd hlk
theorem j_lreturn {x : Int} (hBM : jMv B) (hcs : ce ≤ mc ∧ sl ≤ ms) (hr0 : D.2.2.2.1 = some .long) (hd : decode D.2.1 pc = .ok (.lreturn, 1)) : JW Kt B A l D a (jQ B A a (some (pL x)) w mc ms) mc ms w ce sl pc lv [pL x] := by
  intro p e s m below meth c H locs ls X hr hlk hn hK hB hS hl
  refine W.widen hcs.1 hcs.2 ?_
  exact W.lret X.1 X.2.1 (hr.trans hr0) (fun t ht hW => ⟨⟨rfl, hBM _ _ _ _ hW.alike (by rw [ht]; exact hB)⟩, hS.F ht⟩) hS.2.2 hd hlk
theorem j_return (hBM : jMv B) (hcs : ce ≤ mc ∧ sl ≤ ms) (hr0 : D.2.2.2.1 = none) (hd : decode D.2.1 pc = .ok (.return_, 1)) : JW Kt B A l D a (jQ B A a none w mc ms) mc ms w ce sl pc lv [] := by
  intro p e s m below meth c H locs ls X hr hlk hn hK hB hS hl
  refine W.widen hcs.1 hcs.2 ?_
  exact W.vret X.1 X.2.1 (hr.trans hr0) (fun t ht hW => ⟨⟨rfl, hBM _ _ _ _ hW.alike (by rw [ht]; exact hB)⟩, hS.F ht⟩) hS.2.2 hd hlk
theorem j_areturn {x : Option Nat} (hBM : jMv B) (hcs : ce ≤ mc ∧ sl ≤ ms) {rt : FieldType} (hr0 : D.2.2.2.1 = some rt) (hrt : (∃ n, rt = .object n) ∨ ∃ t, rt = .array t) (hd : decode D.2.1 pc = .ok (.areturn, 1)) : JW Kt B A l D a (jQ B A a (some (pR x)) w mc ms) mc ms w ce sl pc lv [pR x] := by
  intro p e s m below meth c H locs ls X hr hlk hn hK hB hS hl
  refine W.widen hcs.1 hcs.2 ?_
  exact W.aret X.1 X.2.1 (hr.trans hr0) hrt (by cases x with | none => exact Or.inl rfl | some b => exact Or.inr ⟨b, rfl⟩) (fun t ht hW => ⟨⟨rfl, hBM _ _ _ _ hW.alike (by rw [ht]; exact hB)⟩, hS.F ht⟩) hS.2.2 hd hlk
end JRows2
