/-! the six small methods of the constants' own classes, walked where they are called: those classes have no word that says they are initialised -/
section INL
theorem inl_steps {tb : Tables} [Ours tb] {e : Env} {s : State} {g : JFrame} {c : Code} {below : List Frame} {target : State} (h : At s g.method c below) (hexec : tb.exec = Jvm.exec) {m : MethodId} {meth : Method} {code : Code} {a : Addr} {v w : Int32} {k : ClassFile.Cond} {ig : Instr} {len : Nat} (acts : List Action)
    (hm : s.vm.method? m = some meth) (hc : meth.code = some code) (hl : meth.locks = false) (hp : s.plainMethod m) (hret : meth.sig.returnType = some .boolean) (hlocals : code.maxLocals = 3)
    (h0 : decode code.code 0 = .ok (.iload_n 1, 1)) (h1 : decode code.code 1 = .ok (.iload_n 2, 1)) (h2 : decode code.code 2 = .ok (.if_icmp k 7, 3)) (h5 : decode code.code 5 = .ok (.iconst 1, 1)) (h6 : decode code.code 6 = .ok (.goto 4, 3)) (h9 : decode code.code 9 = .ok (.iconst 0, 1)) (h10 : decode code.code 10 = .ok (.ireturn, 1))
    (hroom : e.platform.stackFull (((s.setTop g).threads[(s.setTop g).cur]?).getD { frames := [] }) (s.setTop g).frames code.maxLocals = false)
    (hdg : decode c.code g.pc = .ok (ig, len)) {r : Int32} (hr : r = if Op.if_icmp.holds k v w = true then 0 else 1)
    (hrest : Steps tb e below (s.setTop { g with pc := g.pc + len, stack := (.int r) :: g.stack }) target) :
    Steps tb e below (doInvoke e (s.setTop g) acts m #[.ref a, .int v, .int w]).1 target := by
  rw [doInvoke_enter h.top acts hm hc hl hroom]
  have hA : At ((s.setTop g).pushFrame (.java (entryFrame m #[.ref a, .int v, .int w] code.maxLocals))) m code below := h.enter #[.ref a, .int v, .int w] hm hc hp
  have hfr := frames_entered (g := g) h.top (.java (entryFrame m #[.ref a, .int v, .int w] code.maxLocals))
  have hback : ((s.setTop g).pushFrame (.java (entryFrame m #[.ref a, .int v, .int w] code.maxLocals))).setFrames (.java g :: s.frames.tail) = s.setTop g :=
    setFrames_entered (s := s) (g := g) h.top (.java (entryFrame m #[.ref a, .int v, .int w] code.maxLocals))
  have hvm : ((s.setTop g).pushFrame (.java (entryFrame m #[.ref a, .int v, .int w] code.maxLocals))).vm = s.vm := rfl
  have hcg : ((s.setTop g).pushFrame (.java (entryFrame m #[.ref a, .int v, .int w] code.maxLocals))).code? g.method = some c := by
    have := h.code
    rw [State.code?_eq] at this ⊢
    simpa [State.pushFrame, State.setFrames] using this
  generalize (s.setTop g).pushFrame (.java (entryFrame m #[.ref a, .int v, .int w] code.maxLocals)) = u at hA hfr hback hvm hcg ⊢
  have hm' : u.vm.method? m = some meth := by rw [hvm]; exact hm
  have hloc : argsToLocals #[.ref a, .int v, .int w] 3 = #[.val (.ref a), .val (.int v), .val (.int w)] := rfl
  unfold entryFrame
  rw [hlocals, hloc]
  cases hk : Op.if_icmp.holds k v w
  · rw [hk] at hr
    jvm_step hA [hexec, h0, Value.isRef]
    jvm_step hA [hexec, h1, Value.isRef]
    jvm_step hA [hexec, h2, hk]
    jvm_step hA [hexec, h5]
    jvm_step hA [hexec, h6]
    jvm_step hA [hA.top, hexec, h10, hm', hret, narrow]
    intro acts'
    rw [doReturn_leave (g := g) (meth := meth) (cg := c) (ig := ig) (len := len) acts' hfr hm' hl rfl rfl hcg hdg, hback, State.setTop_setTop]
    subst hr
    simpa using hrest
  · rw [hk] at hr
    jvm_step hA [hexec, h0, Value.isRef]
    jvm_step hA [hexec, h1, Value.isRef]
    jvm_step hA [hexec, h2, hk]
    jvm_step hA [hexec, h9]
    jvm_step hA [hA.top, hexec, h10, hm', hret, narrow]
    intro acts'
    rw [doReturn_leave (g := g) (meth := meth) (cg := c) (ig := ig) (len := len) acts' hfr hm' hl rfl rfl hcg hdg, hback, State.setTop_setTop]
    subst hr
    simpa using hrest
end INL
section INV
variable {p : Program} {l : Launch} {e : Env} {R : Room} {s : State} {m : MethodId} {args : Array Value} {below : List Frame} {meth : Method} {c : Code} {H : Heap} {locs : List Loc} {cells slots : Nat}
/-- the code of such a method -/
def inlD (bytes : ByteArray) (k : ClassFile.Cond) : Prop := decode bytes 0 = .ok (.iload_n 1, 1) ∧ decode bytes 1 = .ok (.iload_n 2, 1) ∧ decode bytes 2 = .ok (.if_icmp k 7, 3) ∧ decode bytes 5 = .ok (.iconst 1, 1) ∧ decode bytes 6 = .ok (.goto 4, 3) ∧ decode bytes 9 = .ok (.iconst 0, 1) ∧ decode bytes 10 = .ok (.ireturn, 1)
theorem inl_run {x y : MethodName} {bytes cc : ByteArray} {nL index : Nat} {Ts : List Cond} {own C owner : String} {b : Addr} {v w r : Int32} {rest : List Value} {g : JFrame} {k : ClassFile.Cond}
    {Qa : State → Outcome → State → Prop} {free : Addr → Prop} (S : CallFix p m c cc nL s args Ts own) (hq : ∀ st t : State, st.heap = H → t.heap = H → s.vm.Alike t.vm → Qa st (.returned (some (.int r))) t)
    (hlink : (Cond.methodLink own index x).before args s = true) (hsame : (Cond.sameMethod x.cls owner x.name x.desc).before args s = true)
    (hd0 : va_Decl s ⟨owner, x.name, x.desc⟩) (howner : owner ≠ "java/lang/invoke/MethodHandle" ∧ owner ≠ "java/lang/invoke/VarHandle")
    (hsel : (Cond.selects C x y).before args s = true) (hinst : (Cond.instanceMethod y).before args s = true) (hcode : (Cond.code y bytes 3 (some .boolean)).before args s = true) (hy : plainName y.cls = true) (hD : inlD bytes k)
    (hrc : ∃ cellB : Cell, H[b]? = some cellB ∧ cellB.vm.isStatics = false ∧ s.vm.findClass C = some cellB.cls)
    (hlen : ∀ sig, parseMethodDescriptor x.desc = some sig → 2 = sig.parameters.length)
    (hg : g.method = m) (hsize : g.locals.size = nL) (hstack : g.stack = .int w :: .int v :: .ref b :: rest) (hW : 2 * g.monitorRoom + (rest.map fun v => v.category).sum ≤ 8) (hdg : decode cc g.pc = .ok (.invokevirtual index, 3))
    (hf : 1 ≤ R.frames ∧ 22 ≤ R.locals) (hr : r = if Op.if_icmp.holds k v w = true then 0 else 1) :
    va_Run p l e R s m args below meth c H locs cells slots 0 0 g rest Qa free := by
  obtain ⟨hx, hb, hml, ho, -⟩ := S
  obtain ⟨cellB, hcB, hoB, hclB⟩ := hrc
  intro T hT X
  obtain ⟨r0, r1, hn, hrm, hstR, hsigR⟩ := hd0
  obtain ⟨cn, ck, r2, hcn, hck, hni, hff, hn1⟩ := Cond.sameMethod_found hsame
  cases hn.symm.trans hn1
  obtain ⟨mk, methM, hnamed, hmethM, -, habM⟩ := Cond.instanceMethod_spec hinst
  obtain ⟨c2, r3, m2, q1, q2, q3, q4, kP, hkP, hkPi⟩ := Cond.selects_spec hsel
  cases hclB.symm.trans q1
  cases hff.symm.trans q2
  cases hnamed.symm.trans q3
  have hselP : selectMethod e.platform s.vm cellB.cls r0 = .method mk := by rw [Launch.admits_selectMethod X.admits]; exact q4
  obtain ⟨vm₁, X₁, hstep₁⟩ := X.invokevirtualUp hx ho hlink hsame howner hn hrm hstR (a := b) (cell := cellB) (by rw [hT]; exact hcB)
    (fun z h => by rw [h] at hoB; cases hoB) hselP hmethM habM hkP hkPi (g := g) hg (argsL := [.int v, .int w]) (rest := rest) (hlen _ hsigR) hstack (by rw [hb]; exact hdg)
  obtain ⟨methC, cC, hmC, hcC, hbC, hlC, hretC, hlkC, -, -⟩ := Cond.code_spec hnamed hcode
  obtain ⟨d0, d1, d2, d5, d6, d9, d10⟩ := hD
  subst hg
  have hm1 : (T.setVm vm₁).vm.method? mk = some methC := by rw [X₁.warmed.alike.method?]; exact hmC
  refine ⟨some (.int r), T.setVm vm₁, T.setVm vm₁, T.setVm vm₁, [], hT, by rw [List.append_nil]; exact X₁, (by intro q hq; cases hq), rfl, rfl, hq _ _ hT hT X₁.warmed.alike, ?_⟩
  intro target h
  refine hstep₁ _ fun acts => ?_
  refine inl_steps (g := { g with stack := rest }) (c := c) (ig := .invokevirtual index) (len := 3) (k := k) (v := v) (w := w) (r := r) X₁.here hx acts hm1 hcC hlkC (State.plainMethod.of_named (plainFor_of_name hy) (X₁.named hnamed) hm1) hretC hlC (by rw [hbC]; exact d0) (by rw [hbC]; exact d1) (by rw [hbC]; exact d2) (by rw [hbC]; exact d5) (by rw [hbC]; exact d6) (by rw [hbC]; exact d9) (by rw [hbC]; exact d10) (X₁.notFull (g := { g with stack := rest }) (hsize.trans hml.symm) hf.1 ?_) (by rw [hb]; exact hdg) hr h
  rw [hlC]
  have h22 := hf.2
  show 2 * g.monitorRoom + (rest.map fun v => v.category).sum + (3 + 11) ≤ R.locals
  omega
end INV
theorem hvA {P : Prop} [Decidable P] {t : Bool} (h : t = true ↔ P) : jI (if P then 0 else 1) = if t = true then 0 else 1 := by
  by_cases q : P
  · rw [if_pos q, if_pos (h.mpr q)]; rfl
  · rw [if_neg q, if_neg (fun z => q (h.mp z))]; rfl
theorem hvB {P : Prop} [Decidable P] {t : Bool} (h : t = true ↔ ¬ P) : jI (if P then 1 else 0) = if t = true then 0 else 1 := by
  by_cases q : P
  · rw [if_pos q, if_neg (fun z => h.mp z q)]; rfl
  · rw [if_neg q, if_pos (h.mpr q)]; rfl
theorem hvC_I : ∀ (k : ClassFile.Cond) (x y : Int), jI (hvC k x y) = if Op.if_icmp.holds k (jI x) (jI y) = true then 0 else 1
  | .eq, _, _ => hvA (beq_iff_eq.trans I_eq)
  | .ne, _, _ => hvB (bne_iff_ne.trans (not_congr I_eq))
  | .lt, _, _ => hvA (decide_eq_true_iff.trans I_lt)
  | .ge, _, _ => hvA (decide_eq_true_iff.trans I_le)
  | .gt, _, _ => hvA (decide_eq_true_iff.trans I_lt)
  | .le, _, _ => hvA (decide_eq_true_iff.trans I_le)
section INW
variable {G : CG} {A : Nat → Prop} {l : Launch} {w : Sg} {x y : MethodName} {b : Nat} {C owner : String} {bytes : ByteArray} {k : ClassFile.Cond}
theorem vd_inl (x1 x2 : Int) (hrc : jrecv (bC G A) w b C) (hd : jdO owner x 2) (q2 : Cond.sameMethod x.cls owner x.name x.desc ∈ lw_all) (q3 : Cond.selects C x y ∈ lw_all) (q4 : Cond.instanceMethod y ∈ lw_all) (q6 : Cond.code y bytes 3 (some .boolean) ∈ lw_all) (q7 : Cond.declares ⟨owner, x.name, x.desc⟩ ∈ lw_tbl)
    (hy : plainName y.cls = true) (hD : inlD bytes k) : VD G A l x 20 300 (some b) [pI x1, pI x2] w (some (pI (hvC k x1 x2))) w := by
  intro D a Q mc ms ce sl pc lv idx rest st st1 hq hF1 hL1 hst hst1 h8 hd9 hcs kk
  intro p e s m below meth c H locs ls X hr hlk hn9 hK hB hS hl
  subst hst
  subst hst1
  have ok := X.2.2.2.2
  refine jw_call (o1 := some (pI (hvC k x1 x2))) (w1 := w) (B := bC G A) (mc := 0) (ms := 0) (rest := rest.map mv) (a := ((pR (some b) :: [pI x1, pI x2]).map mv).toArray) (inl_run (v := jI x1) (w := jI x2) (r := jI (hvC k x1 x2)) (k := k) (C := C) (owner := owner) (x := x) (y := y) (bytes := bytes) (b := b) X ?_ (ok _ hq) (ok _ q2) (va_Decl.abs (hK.1 _ q7 rfl)) ⟨hd.1, hd.2.1⟩ (ok _ q3) (ok _ q4) (ok _ q6) hy hD (hrc s H hB) ?_ rfl hl.1 (by simp [mv, va_rf]) (lv_room (by rw [jcat_sum]; exact h8)) hd9 ⟨?_, ?_⟩ (hvC_I k x1 x2)) hS ?_
  · intro st t h1 h2 h3
    refine ⟨⟨rfl, ?_⟩, by rw [h1, h2]; exact Nat.le_refl _, fun q _ _ => by rw [h1, h2]⟩
    rw [h2]
    exact bC_mv G A w s t H h3 hB
  · intro sig h
    have h2 := hd.2.2
    rw [h] at h2
    exact (Option.some.inj h2).symm
  · show 1 ≤ D.2.2.2.2.2.1
    omega
  · show 22 ≤ D.2.2.2.2.2.2
    omega
  intro t H1 locs1 ht9 hvm hB1 hS1
  have h := kk p e s m below meth c H1 locs1 ls X hr hlk hn9 hK (bC_mv G A w t s H1 hvm.symm hB1) hS1 hl
  rw [map_toList]
  exact h
end INW
