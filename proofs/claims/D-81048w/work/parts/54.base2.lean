/-! BASE 2: a method's contract out of JW; calls -/
def jargs : Nat → List PV → List (Nat × PV)
  | _, [] => []
  | i, v :: t => (i, v) :: jargs (if jcat v = 2 then i + 2 else i + 1) t
theorem jargs_eq (vs : List PV) : ∀ i, lv_args i (vs.map mv) = (jargs i vs).map jq := by
  induction vs with
  | nil => intro i; rfl
  | cons v t ih =>
    intro i
    show (i, mv v) :: lv_args (if (mv v).category = 2 then i + 2 else i + 1) (t.map mv) = (i, mv v) :: (jargs (if jcat v = 2 then i + 2 else i + 1) t).map jq
    rw [mv_cat, ih]
def jsz : List PV → Nat
  | [] => 0
  | v :: t => jcat v + jsz t
theorem jsz_eq (vs : List PV) : (lg_sl (vs.map mv)).length = jsz vs := by
  induction vs with
  | nil => rfl
  | cons v t ih =>
    have e : lg_sl ((v :: t).map mv) = (if (mv v).category = 2 then [.val (mv v), .second] else [.val (mv v)]) ++ lg_sl (t.map mv) := by
      unfold lg_sl; rw [List.map_cons, List.flatMap_cons]
    rw [e, List.length_append, ih, mv_cat]
    show _ = jcat v + jsz t
    rcases v with x | x | r <;> simp [jcat]
section JMet
variable {Ω : Type} {Kt : State → Prop} {B : Ω → State → Heap → Prop} {A : Nat → Prop} {l : Launch} {D : MD} {a : List PV} {o : Option PV} {Q : List Frame → State → State → Prop} {w' w : Ω} {mc ms ce sl pc : Nat} {lv lv' : List (Nat × PV)} {st : List PV} {y : MethodName}
/-- what is known of a method's name and code -/
def jOk (y : MethodName) (D : MD) (a : List PV) (lv0 : List (Nat × PV)) : Prop := plainName y.cls = true ∧ y.cls = D.1 ∧ y.name = D.2.2.2.2.1 ∧ jsz a ≤ D.2.2.1 ∧ jargs 0 a = lv0
theorem j_met {lv0 : List (Nat × PV)} (h : jOk y D a lv0) (k : JW Kt B A l D a (jQ B A a o w' mc ms) mc ms w 0 0 0 lv0 []) : JM Kt B A l y D a w o w' mc ms := by
  obtain ⟨hy, hc, hnm, hsz, h0⟩ := h
  subst h0
  refine Met.ofW (cc := D.2.1) (maxL := D.2.2.1) (ret := D.2.2.2.1) hy rfl ?_
  intro p e s m args below meth c s₁ B9 hml hv
  obtain ⟨rfl, hK, hB⟩ := hv
  have hts := atoms_spec (ws := ws_ y D.2.1 D.2.2.1 D.2.2.2.1) B9.pre
  have hts : ∀ w ∈ lw_all, w.before _ s = true := fun w h => hts w (List.mem_cons_of_mem _ h)
  have hown : s.vm.findClass y.cls = some m.cls := findClass_of_methodNamed B9.named
  have hl := lv_entry (a.map mv) (n := D.2.2.1) (by rw [jsz_eq]; exact hsz)
  rw [lg_entry_eq]
  rw [jargs_eq] at hl
  exact k p e s m below meth c s.heap [] _ ⟨B9.exec, B9.bytes, hml, by rw [← hc]; exact hown, hts⟩ B9.returns B9.notSynchronized (by rw [← hnm]; exact (name_of_methodNamed B9.named B9.method).1) hK hB va_S.rf hl
end JMet
section JCall
variable {p : Program} {l : Launch} {e : Env} {R : Room} {s : State} {m : MethodId} {args : Array Value} {below : List Frame} {meth : Method} {c : Code} {H : Heap} {locs : List Loc} {cells slots : Nat} {Q : State → Prop}
variable {pc : Nat} {ls : Array Slot} {rest st0 : List Value} {a : Array Value} {A : Nat → Prop} {H0 : Heap} {mc ms : Nat}
theorem jw_call {Ω : Type} {B : Ω → State → Heap → Prop} {o1 : Option PV} {w1 : Ω} (hr : va_Run p l e R s m args below meth c H locs cells slots mc ms (F0 m pc ls st0) rest (kQ o1 w1 B A a) A) (hS : va_S A H0 H locs)
    (kk : ∀ (t : State) (H1 : Heap) (locs1 : List Loc), t.heap = H1 → s.vm.Alike t.vm → B w1 t H1 → va_S A H0 H1 locs1 → W p l e R s m args below meth c H1 locs1 (cells + mc) (slots + ms) Q (F0 m (pc + 3) ls ((o1.map mv).toList ++ rest))) : W p l e R s m args below meth c H locs cells slots Q (F0 m pc ls st0) := by
  intro T hT X
  obtain ⟨v, st₀, t, T', L, h0, X', hL, e1, e2, ⟨⟨hv, hb⟩, hz, hk⟩, st⟩ := hr T hT X
  cases hv
  rw [h0] at hz hk
  obtain ⟨t2, a1, b1⟩ := kk t T'.heap (locs ++ L) e1.symm (by rw [← e2]; exact X'.warmed.alike) (by rw [e1]; exact hb)
    ⟨Nat.le_trans hS.1 (by rw [e1]; exact hz), fun q h1 h2 => by rw [e1, hk q (Nat.lt_of_lt_of_le h1 hS.1) h2]; exact hS.2.1 q h1 h2, fun q hq => by
      rcases List.mem_append.mp hq with h | h
      · exact hS.2.2 q h
      · exact hL q h⟩ T' rfl X'
  exact ⟨t2, st t2 a1, b1⟩
end JCall
section JCalls
variable {Ω : Type} {Kt : State → Prop} {B : Ω → State → Heap → Prop} {A : Nat → Prop} {l : Launch} {D : MD} {a : List PV} {o : Option PV} {Q : List Frame → State → State → Prop} {w' w : Ω} {mc ms ce sl pc : Nat} {lv lv' : List (Nat × PV)}
theorem map_toList (o1 : Option PV) (rest : List PV) : (o1.map mv).toList ++ rest.map mv = (o1.toList ++ rest).map mv := by
  cases o1 <;> simp
theorem jblind (hKM : jKv Kt) (hBM : jMv B) (a1 : List PV) : FrameBlind (va_Pc (a1.map mv) (fun U => Kt U ∧ B w U U.heap)) := by
  intro a9 U g mk q
  obtain ⟨q1, q0, q2⟩ := q
  exact ⟨q1, hKM.2 U (U.calling g mk a9) rfl q0, hBM w U (U.calling g mk a9) _ (Vm.Alike.refl U.vm) q2⟩
theorem jcat_sum (rest : List PV) : ((rest.map mv).map fun v => v.category).sum = (rest.map jcat).sum := by
  rw [List.map_map]; congr 2; funext v; exact mv_cat v
/-- the words of a virtual call -/
def jwV (own : String) (Dy : MD) (idx : Nat) (y : MethodName) : Prop := Cond.methodLink own idx y ∈ lw_all ∧ Cond.instanceMethod y ∈ lw_all ∧ Cond.selects Dy.1 y y ∈ lw_all ∧ Cond.initialized Dy.1 ∈ lw_all ∧ Cond.code y Dy.2.1 Dy.2.2.1 Dy.2.2.2.1 ∈ lw_all
def jwS (own : String) (Dy : MD) (idx : Nat) (y : MethodName) : Prop := Cond.methodLink own idx y ∈ lw_all ∧ Cond.static y ∈ lw_all ∧ Cond.initialized y.cls ∈ lw_all ∧ Cond.code y Dy.2.1 Dy.2.2.1 Dy.2.2.2.1 ∈ lw_all
/-- the descriptor: the class, not a handle, n parameters -/
def jdV (y : MethodName) (C : String) (n : Nat) : Prop := y.cls = C ∧ y.cls ≠ "java/lang/invoke/MethodHandle" ∧ y.cls ≠ "java/lang/invoke/VarHandle" ∧ (parseMethodDescriptor y.desc).map (fun d => d.parameters.length) = some n
/-- the callee's room is in the caller's -/
def jrm (D Dy : MD) : Prop := Dy.2.2.2.2.2.1 + 1 ≤ D.2.2.2.2.2.1 ∧ 8 + (Dy.2.2.1 + 11) + Dy.2.2.2.2.2.2 ≤ D.2.2.2.2.2.2
def jrecv {Ω : Type} (B : Ω → State → Heap → Prop) (w : Ω) (b : Nat) (C : String) : Prop := ∀ (s : State) (H : Heap), B w s H → ∃ cellB : Cell, H[b]? = some cellB ∧ cellB.vm.isStatics = false ∧ s.vm.findClass C = some cellB.cls
theorem j_callV {y : MethodName} {Dy : MD} {b idx n mc1 ms1 : Nat} {w1 : Ω} {o1 : Option PV} (As rest : List PV) (st : List PV) (hKM : jKv Kt) (hBM : jMv B) (hM : JM Kt B A l y Dy (pR (some b) :: As) w o1 w1 mc1 ms1) (hq : jwV D.1 Dy idx y) (hdv : jdV y Dy.1 n) (hn : As.length = n) (hrm : jrm D Dy) (hrc : jrecv B w b Dy.1)
    (hst : st = As.reverse ++ pR (some b) :: rest) (h8 : (rest.map jcat).sum ≤ 8) (hd : decode D.2.1 pc = .ok (.invokevirtual idx, 3)) (hcs : ce + mc1 ≤ mc ∧ sl + ms1 ≤ ms) (k : JW Kt B A l D a Q mc ms w1 (ce + mc1) (sl + ms1) (pc + 3) lv (o1.toList ++ rest)) : JW Kt B A l D a Q mc ms w ce sl pc lv st := by
  intro p e s m below meth c H locs ls X hr hlk hn9 hK hB hS hl
  subst hst
  obtain ⟨q1, q2, q3, q4, q5⟩ := hq
  refine jw_call (o1 := o1) (w1 := w1) (B := B) (mc := mc1) (ms := ms1) (rest := rest.map mv) (a := ((pR (some b) :: As).map mv).toArray) (va_runV (As := As.map mv) (rest := rest.map mv) (b := b) X hM (cwV n X.2.2.2.2 (lw_V q1 q2 q3 q4 q5) rfl rfl rfl hdv hrm) ⟨jblind hKM hBM (pR (some b) :: As), hrc s H hB, fun U hU hW => ⟨rfl, hKM.1 s U hW hK, by rw [hU]; exact hBM w s U H hW.alike hB⟩⟩ rfl (by rw [List.length_map]; exact hn) hl.1 (by simp [mv, va_rf]) (lv_room (by rw [jcat_sum]; exact h8)) hd hcs) hS ?_
  intro t H1 locs1 ht hvm hB1 hS1
  have h := k p e s m below meth c H1 locs1 ls X hr hlk hn9 hK (hBM w1 t s H1 hvm.symm hB1) hS1 hl
  rw [map_toList]
  exact h
theorem j_callS {y : MethodName} {Dy : MD} {idx n mc1 ms1 : Nat} {w1 : Ω} {o1 : Option PV} (As rest : List PV) (st : List PV) (hKM : jKv Kt) (hBM : jMv B) (hM : JM Kt B A l y Dy As w o1 w1 mc1 ms1) (hq : jwS D.1 Dy idx y) (hdv : jdV y Dy.1 n) (hn : As.length = n) (hrm : jrm D Dy)
    (hst : st = As.reverse ++ rest) (h8 : (rest.map jcat).sum ≤ 8) (hd : decode D.2.1 pc = .ok (.invokestatic idx, 3)) (hcs : ce + mc1 ≤ mc ∧ sl + ms1 ≤ ms) (k : JW Kt B A l D a Q mc ms w1 (ce + mc1) (sl + ms1) (pc + 3) lv (o1.toList ++ rest)) : JW Kt B A l D a Q mc ms w ce sl pc lv st := by
  intro p e s m below meth c H locs ls X hr hlk hn9 hK hB hS hl
  subst hst
  obtain ⟨q1, q2, q3, q4⟩ := hq
  refine jw_call (o1 := o1) (w1 := w1) (B := B) (mc := mc1) (ms := ms1) (rest := rest.map mv) (a := (As.map mv).toArray) (va_runS (As := As.map mv) (rest := rest.map mv) X hM (va_cwS n X.2.2.2.2 (lw_S q1 q2 q3 q4) rfl rfl rfl hdv.2 hrm) ⟨jblind hKM hBM As, fun U hU hW => ⟨rfl, hKM.1 s U hW hK, by rw [hU]; exact hBM w s U H hW.alike hB⟩⟩ rfl (by rw [List.length_map]; exact hn) hl.1 (by simp) (lv_room (by rw [jcat_sum]; exact h8)) hd hcs) hS ?_
  intro t H1 locs1 ht hvm hB1 hS1
  have h := k p e s m below meth c H1 locs1 ls X hr hlk hn9 hK (hBM w1 t s H1 hvm.symm hB1) hS1 hl
  rw [map_toList]
  exact h
theorem j_cVr {y : MethodName} {Dy : MD} {b idx n : Nat} {w1 : Ω} {v : PV} (As rest : List PV) (hKM : jKv Kt) (hBM : jMv B) (hM : JM Kt B A l y Dy (pR (some b) :: As) w (some v) w1 0 0) (hq : jwV D.1 Dy idx y) (hdv : jdV y Dy.1 n) (hn : As.length = n) (hrm : jrm D Dy) (hrc : jrecv B w b Dy.1) {st : List PV} (hst : st = As.reverse ++ pR (some b) :: rest) (h8 : (rest.map jcat).sum ≤ 8) (hd : decode D.2.1 pc = .ok (.invokevirtual idx, 3)) (hcs : ce ≤ mc ∧ sl ≤ ms) (k : JW Kt B A l D a Q mc ms w1 ce sl (pc + 3) lv (v :: rest)) : JW Kt B A l D a Q mc ms w ce sl pc lv st :=
  j_callV As rest st hKM hBM hM hq hdv hn hrm hrc hst h8 hd hcs k
theorem j_cVv {y : MethodName} {Dy : MD} {b idx n : Nat} {w1 : Ω} (As rest : List PV) (hKM : jKv Kt) (hBM : jMv B) (hM : JM Kt B A l y Dy (pR (some b) :: As) w none w1 0 0) (hq : jwV D.1 Dy idx y) (hdv : jdV y Dy.1 n) (hn : As.length = n) (hrm : jrm D Dy) (hrc : jrecv B w b Dy.1) {st : List PV} (hst : st = As.reverse ++ pR (some b) :: rest) (h8 : (rest.map jcat).sum ≤ 8) (hd : decode D.2.1 pc = .ok (.invokevirtual idx, 3)) (hcs : ce ≤ mc ∧ sl ≤ ms) (k : JW Kt B A l D a Q mc ms w1 ce sl (pc + 3) lv rest) : JW Kt B A l D a Q mc ms w ce sl pc lv st :=
  j_callV As rest st hKM hBM hM hq hdv hn hrm hrc hst h8 hd hcs k
theorem j_cSr {y : MethodName} {Dy : MD} {idx n : Nat} {w1 : Ω} {v : PV} (As rest : List PV) (hKM : jKv Kt) (hBM : jMv B) (hM : JM Kt B A l y Dy As w (some v) w1 0 0) (hq : jwS D.1 Dy idx y) (hdv : jdV y Dy.1 n) (hn : As.length = n) (hrm : jrm D Dy) {st : List PV} (hst : st = As.reverse ++ rest) (h8 : (rest.map jcat).sum ≤ 8) (hd : decode D.2.1 pc = .ok (.invokestatic idx, 3)) (hcs : ce ≤ mc ∧ sl ≤ ms) (k : JW Kt B A l D a Q mc ms w1 ce sl (pc + 3) lv (v :: rest)) : JW Kt B A l D a Q mc ms w ce sl pc lv st :=
  j_callS As rest st hKM hBM hM hq hdv hn hrm hst h8 hd hcs k
theorem j_cSv {y : MethodName} {Dy : MD} {idx n : Nat} {w1 : Ω} (As rest : List PV) (hKM : jKv Kt) (hBM : jMv B) (hM : JM Kt B A l y Dy As w none w1 0 0) (hq : jwS D.1 Dy idx y) (hdv : jdV y Dy.1 n) (hn : As.length = n) (hrm : jrm D Dy) {st : List PV} (hst : st = As.reverse ++ rest) (h8 : (rest.map jcat).sum ≤ 8) (hd : decode D.2.1 pc = .ok (.invokestatic idx, 3)) (hcs : ce ≤ mc ∧ sl ≤ ms) (k : JW Kt B A l D a Q mc ms w1 ce sl (pc + 3) lv rest) : JW Kt B A l D a Q mc ms w ce sl pc lv st :=
  j_callS As rest st hKM hBM hM hq hdv hn hrm hst h8 hd hcs k
end JCalls
/-- pure rows for the certificates -/
theorem ob {α β : Type} {x : Option α} {f : α → Option β} {r : β} (h : x.bind f = some r) : ∃ v, x = some v ∧ f v = some r := Option.bind_eq_some_iff.mp h
theorem obb {α β γ : Type} {x : Option α} {f : α → Option β} {K : β → Option γ} {r : γ} (h : (x.bind f).bind K = some r) : ∃ v, x = some v ∧ (f v).bind K = some r := by
  rw [Option.bind_assoc] at h
  exact Option.bind_eq_some_iff.mp h
theorem oba {α β γ : Type} {x : Option α} {f : α → Option β} {K : β → Option γ} {r : γ} (h : (x.bind f).bind K = some r) : x.bind (fun v => (f v).bind K) = some r := by
  rw [Option.bind_assoc] at h
  exact h
theorem it {c : Prop} {d : Decidable c} {α : Type} {x y r : α} (hc : c) (h : @ite α c d x y = r) : x = r := (if_pos hc).symm.trans h
theorem ie {c : Prop} {d : Decidable c} {α : Type} {x y r : α} (hc : ¬ c) (h : @ite α c d x y = r) : y = r := (if_neg hc).symm.trans h
theorem itb {c : Prop} {d : Decidable c} {α β : Type} {x y : Option α} {K : α → Option β} {r : Option β} (hc : c) (h : (@ite (Option α) c d x y).bind K = r) : x.bind K = r := by rw [if_pos hc] at h; exact h
theorem ieb {c : Prop} {d : Decidable c} {α β : Type} {x y : Option α} {K : α → Option β} {r : Option β} (hc : ¬ c) (h : (@ite (Option α) c d x y).bind K = r) : y.bind K = r := by rw [if_neg hc] at h; exact h
theorem onb {α β : Type} {K : α → Option β} {r : β} {P : Prop} (h : (none : Option α).bind K = some r) : P := by cases h
theorem onn {β : Type} {r : β} {P : Prop} (h : (none : Option β) = some r) : P := by cases h
theorem nar_z {x : Int} (h : w32 x = 0 ∨ w32 x = 1) : narrow .boolean (.int (jI x)) = .int (jI x) := by
  rcases h with h | h
  · have e : jI x = jI 0 := I_eq.mpr h
    rw [e]; rfl
  · have e : jI x = jI 1 := I_eq.mpr h
    rw [e]; rfl
theorem in_I {x : Int} {n : Nat} (h : 0 ≤ w32 x ∧ w32 x < n) : vp_in (jI x) n := vp_in_iff.mpr (by rw [toInt_I]; exact h)
theorem clamp_I (x : Int) : (jI x).toNatClampNeg = (w32 x).toNat := by
  show (jI x).toInt.toNat = _
  rw [toInt_I]