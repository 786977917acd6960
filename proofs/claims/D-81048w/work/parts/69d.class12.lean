/-! getClass() of a list by an interface's entry -/
abbrev yGI : MethodName := ⟨"java/util/Collection", "getClass", "()Ljava/lang/Class;"⟩
section GI
variable {p : Program} {l : Launch} {e : Env} {R : Room} {s : State} {m : MethodId} {args : Array Value} {below : List Frame} {meth : Method} {c : Code} {H : Heap} {locs : List Loc} {cells slots : Nat} {Q : State → Prop}
variable {cc : ByteArray} {pc : Nat} {ls : Array Slot} {rest : List Value} {a : Nat}
theorem va_getCI (hexec : p.tables.exec = Jvm.exec) (hb : c.code = cc) (hml : c.maxLocals = ls.size) {own C : String} {index count mi : Nat} (hown : s.vm.findClass own = some m.cls) (hlink : (Cond.methodLink own index yGI).before args s = true) (hdecl : (Cond.declares yGC).before args s = true) (hface : (Cond.interfaceMethod "java/util/Collection" "java/lang/Object" "getClass" "()Ljava/lang/Class;").before args s = true) (hsame : (Cond.sameMethod "java/lang/Object" "java/lang/Object" "getClass" "()Ljava/lang/Class;").before args s = true)
    (hsel : (Cond.selects C yGC yGC).before args s = true) (hinst : (Cond.instanceMethod yGC).before args s = true) (hpub : (Cond.publicMethod yGC).before args s = true) (hunh : (Cond.unhidden C "getClass" "()Ljava/lang/Class;").before args s = true) (hcast : (Cond.castable C "java/util/Collection").before args s = true) (hnat : (Cond.native yGC).before args s = true) (hM : va_Mi C mi s)
    (hr : ∃ cell : Cell, H[a]? = some cell ∧ cell.vm.isStatics = false ∧ s.vm.findClass C = some cell.cls) (hframes : 1 ≤ R.frames) (hlocals : (rest.map fun v => v.category).sum + 14 ≤ R.locals) (hdg : decode cc pc = .ok (.invokeinterface index count, 5))
    (k : W p l e R s m args below meth c H locs cells slots Q (F0 m (pc + 5) ls (.ref mi :: rest))) : W p l e R s m args below meth c H locs cells slots Q (F0 m pc ls (.ref a :: rest)) := by
  have hsel' : (Cond.selects C yGI yGC).before args s = true := by
    obtain ⟨c2, r2, m2, q1, q2, q3, q4, -⟩ := Cond.selects_spec hsel
    obtain ⟨cL, kL, r1, hcL, hkL, hiL, hfoundL, hn1⟩ := Cond.interfaceMethod_spec hface
    have hO : ∃ cO, s.vm.findClass "java/lang/Object" = some cO := by
      obtain ⟨mk, methM, hnamed, hmethM, -, habM⟩ := Cond.instanceMethod_spec hinst
      exact ⟨_, findClass_of_methodNamed hnamed⟩
    obtain ⟨cO, hcO⟩ := hO
    obtain ⟨hs1, -⟩ := Cond.sameMethod_spec hcO q2 hsame
    have e : s.methodFound? "java/util/Collection" "getClass" "()Ljava/lang/Class;" = s.methodFound? "java/lang/Object" "getClass" "()Ljava/lang/Class;" := by
      rw [hfoundL, ← hn1, hs1]; exact q2.symm
    have hsel2 := hsel
    simp only [Cond.before, Cond.holds, Cond.value] at hsel2 ⊢
    rw [e]
    exact hsel2
  obtain ⟨c0, k0, h1, h2, h3⟩ := hM
  obtain ⟨cell, g1, g2, g3⟩ := hr
  cases h1.symm.trans g3
  intro T hT X
  obtain ⟨vm', X', st⟩ := X.getClassOfI hexec (xi := yGI) (C := C) hown hlink hdecl hface hsel' hinst hpub hunh hcast hnat ⟨by decide, by decide⟩ (by decide) rfl rfl h1 h2 ⟨cell, by rw [hT]; exact g1, rfl, g2⟩ h3 (g := F0 m pc ls (.ref a :: rest)) rfl (by rw [hml]) rfl (by rw [hb]; exact hdg) hframes (by show 2 * 0 + _ + _ ≤ _; have hw : nativeFrameWords "java/lang/Object" "getClass" 1 = 3 := (by decide); omega)
  obtain ⟨t, a1, b1⟩ := k (T.setVm vm') hT X'
  exact ⟨t, st t a1, b1⟩
end GI
section GI2
variable {G : CG} {A : Nat → Prop} {l : Launch} {D : MD} {a : List PV} {w : Sg} {mc ms ce sl pc : Nat} {lv : List (Nat × PV)} {st : List PV} {Q : List Frame → State → State → Prop}
theorem c_getCI {idx cnt b : Nat} {r : Option Nat} (hr0 : r = some b) (ht : zT w b = 6) (q1 : Cond.methodLink D.1 idx yGI ∈ lw_all) (hf : 1 ≤ D.2.2.2.2.2.1) (hlo : 24 ≤ D.2.2.2.2.2.2) (h8 : (st.map jcat).sum ≤ 8) (hd : decode D.2.1 pc = .ok (.invokeinterface idx cnt, 5)) (kk : JW kC (bC G A) A l D a Q mc ms w ce sl (pc + 5) lv (pR (G.2.2.2.2 22) :: st)) : JW kC (bC G A) A l D a Q mc ms w ce sl pc lv (pR r :: st) := by
  intro p e s m below meth c H locs ls X hr hlk hn hK hB hS hl
  have h9 := kk p e s m below meth c H locs ls X hr hlk hn hK hB hS hl
  have h8 : ((st.map mv).map fun v => v.category).sum ≤ 8 := by rw [jcat_sum]; exact h8
  subst hr0
  obtain ⟨-, m9, m10, e1, e2, e3, e4⟩ := hB.2.2.2.2
  rw [e2] at h9
  exact va_getCI X.1 X.2.1 (X.2.2.1.trans hl.1.symm) X.2.2.2.1 (X.2.2.2.2 _ q1) (va_Nw.use rfl (hK.1 _ q1309 rfl)) (va_Nw.use rfl (hK.1 _ q1308 rfl)) (X.2.2.2.2 _ q357) (X.2.2.2.2 _ q386) (X.2.2.2.2 _ q356) (va_Nw.use rfl (hK.1 _ q1311 rfl)) (va_Nw.use rfl (hK.1 _ q1310 rfl)) (va_Nw.use rfl (hK.1 _ q1291 rfl)) (X.2.2.2.2 _ q387) e4 (c_recv zcl_5 ht s H hB) hf (by show _ ≤ D.2.2.2.2.2.2; omega) hd h9
end GI2
