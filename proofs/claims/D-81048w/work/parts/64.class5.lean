/-! calls, by what comes back; the array of references is written -/
section CAast
variable {G : CG} {A : Nat → Prop} {l : Launch} {D : MD} {a : List PV} {Q : List Frame → State → State → Prop} {w w1 : Sg} {mc ms ce sl pc : Nat} {lv lv' : List (Nat × PV)} {st : List PV}
theorem c_aast {r v : Option Nat} {i : Int} (h : asR G.2.2.2.1 w r i v = some w1) (hOT : zOk "java/lang/Object" OT) (hd : decode D.2.1 pc = .ok (.aastore, 1)) (kk : JW kC (bC G A) A l D a Q mc ms w1 ce sl (pc + 1) lv st) : JW kC (bC G A) A l D a Q mc ms w ce sl pc lv (pR v :: pI i :: pR r :: st) := by
  intro p e s m below meth c H locs ls X hr hlk hn hK hB hS hl
  obtain ⟨u9, hz, h2⟩ := ob h
  obtain ⟨b, hb0, h3⟩ := ob h2
  clear h h2
  subst hb0
  by_cases hc : (zT w b = 105 ∧ G.2.2.2.1 ≤ b) ∧ 0 ≤ w32 i ∧ w32 i < zL w b
  · rw [if_pos hc] at h3
    cases h3
    obtain ⟨⟨ht, hb⟩, hi⟩ := hc
    have hcell := bC_arr (t := 5) hB ht (by decide) (by decide) hb
    have hin : ¬ (jI i < 0 ∨ (arrV (G.2.2.1 5) (zL w b) (eV w 5 b)).slots.size ≤ (jI i).toNatClampNeg) := by rw [arrV_size]; exact in_I hi
    have fin : ∀ (H1 : Heap), H1[b]? = some ((arrV (G.2.2.1 5) (zL w b) (eV w 5 b)).setSlot (jI i).toNatClampNeg (va_rf v)) → H1.size = H.size → (∀ q, q ≠ b → H1[q]? = H[q]?) → W p l e (jroom D mc ms) s m (a.map mv).toArray below meth c H1 (locs ++ [⟨b, (jI i).toNatClampNeg⟩]) ce sl (Q below s) (F0 m (pc + 1) ls (st.map mv)) := by
      intro H1 e9 z9 oq
      refine kk p e s m below meth c H1 _ ls X hr hlk hn hK (bC_asr (t := 5) hB ht (by decide) (by decide) hb z9 oq ?_) (hS.put z9 oq (hB.2.2.2.1.2.2.1 b (by rw [ht]; omega) hb)) hl
      rw [e9, arrV_store]
      congr 2
      funext q
      unfold updV
      rw [clamp_I]
      by_cases hq : q = (w32 i).toNat
      · subst hq
        rw [if_pos rfl]
        show _ = va_rf (up2 (zB w) b (w32 i).toNat v b (w32 i).toNat)
        rw [up2_at]
      · rw [if_neg hq]
        show _ = va_rf (up2 (zB w) b (w32 i).toNat v b q)
        rw [up2_k hq]
        rfl
    cases v with
    | none => exact va_WaastN (C := "java/lang/Object") X.1 X.2.1 hcell ((hB.1.2 4 (G.2.2.1 5, .object "java/lang/Object") rfl).1 _ _) (fun h => by cases h) hin rfl rfl hd fin
    | some d =>
      have hd9 : zT w d ∈ OT := by
        by_cases hq : zT w d ∈ OT
        · exact hq
        · have hz : (if zT w d ∈ OT then some () else none) = some u9 := hz
          rw [if_neg hq] at hz; cases hz
      obtain ⟨ci, N, C, T, ty, e1, hcl, e2⟩ := hOT _ hd9
      obtain ⟨cell, g1, g2, g3⟩ := c_recv hcl e1 s H hB
      obtain ⟨kC9, hkC, -⟩ := Vm.findClass_spec g3
      obtain ⟨kA, comp, k1, k2, k3, -⟩ := (hB.1.2 4 (G.2.2.1 5, .object "java/lang/Object") rfl).2
      obtain ⟨kE, hkE, -⟩ := Vm.findClass_spec k3
      have hasg : s.vm.assignable cell.cls comp = true := by
        rcases e2 with rfl | e2
        · have h1 := (hB.1.1 ci _ hcl.2.1).2
          have e5 : comp = G.1 ci := Option.some.inj (k3.symm.trans h1.1)
          have e6 : cell.cls = G.1 ci := Option.some.inj (g3.symm.trans h1.1)
          rw [e5, e6]; exact va_assign h1
        · obtain ⟨c0, t0, f1, f2, f3⟩ := Cond.castable_spec (va_Nw.use (A := #[]) rfl (hK.1 _ e2 rfl))
          cases Option.some.inj (g3.symm.trans f1)
          cases Option.some.inj (k3.symm.trans f2)
          exact f3
      exact W.aast X.1 X.2.1 hcell (fun q h => by cases h) (fun h => by cases h) k1 k2 rfl hkE ⟨fun z => hin (Or.inl z), Nat.not_le.mp fun z => hin (Or.inr z)⟩ g1 (fun q h => by rw [h] at g2; cases g2) hkC hasg rfl rfl hd fin
  · rw [if_neg hc] at h3; cases h3
end CAast
/-! Math.max, Math.min -/
section CMath
variable {G : CG} {A : Nat → Prop} {l : Launch} {D : MD} {a : List PV} {Q : List Frame → State → State → Prop} {w w1 : Sg} {mc ms ce sl pc : Nat} {lv lv' : List (Nat × PV)} {st : List PV}
theorem j_mmax {idx : Nat} {x y : Int} (q1 : Cond.methodLink D.1 idx Lib.Math.max.name ∈ lw_all) (q2 : Cond.static Lib.Math.max.name ∈ lw_all) (q3 : Cond.initialized "java/lang/Math" ∈ lw_all) (q4 : Cond.code Lib.Math.max.name Lib.Math.max.code 2 (some .int) ∈ lw_all) (hf : 1 ≤ D.2.2.2.2.2.1) (hlo : 24 ≤ D.2.2.2.2.2.2) (h8 : (st.map jcat).sum ≤ 8) (hcs : ce ≤ mc ∧ sl ≤ ms) (hd : decode D.2.1 pc = .ok (.invokestatic idx, 3)) (k : JW kC (bC G A) A l D a Q mc ms w ce sl (pc + 3) lv (pI (mx32 x y) :: st)) : JW kC (bC G A) A l D a Q mc ms w ce sl pc lv (pI y :: pI x :: st) := by
  intro p e s m below meth c H locs ls X hr hlk hn9 hK hB hS hl
  have h := k p e s m below meth c H locs ls X hr hlk hn9 hK hB hS hl
  have h9 : ((st.map mv).map fun v => v.category).sum ≤ 8 := by rw [jcat_sum]; exact h8
  refine va_mmax X.1 X.2.1 (X.2.2.1.trans hl.1.symm) X.2.2.2.1 (X.2.2.2.2 _ q1) (X.2.2.2.2 _ q2) (X.2.2.2.2 _ q3) (X.2.2.2.2 _ q4) hf (by show _ ≤ D.2.2.2.2.2.2; omega) hcs.1 hcs.2 hd ?_
  have e9 : (if jI x < jI y then jI y else jI x) = jI (mx32 x y) := by
    unfold mx32
    by_cases hc : w32 x < w32 y
    · rw [if_pos (I_lt.mpr hc), if_pos hc]
    · rw [if_neg (fun z => hc (I_lt.mp z)), if_neg hc]
  rw [e9]
  exact h
theorem j_mmin {idx : Nat} {x y : Int} (q1 : Cond.methodLink D.1 idx Lib.Math.min.name ∈ lw_all) (q2 : Cond.static Lib.Math.min.name ∈ lw_all) (q3 : Cond.initialized "java/lang/Math" ∈ lw_all) (q4 : Cond.code Lib.Math.min.name Lib.Math.min.code 2 (some .int) ∈ lw_all) (hf : 1 ≤ D.2.2.2.2.2.1) (hlo : 24 ≤ D.2.2.2.2.2.2) (h8 : (st.map jcat).sum ≤ 8) (hcs : ce ≤ mc ∧ sl ≤ ms) (hd : decode D.2.1 pc = .ok (.invokestatic idx, 3)) (k : JW kC (bC G A) A l D a Q mc ms w ce sl (pc + 3) lv (pI (mn32 x y) :: st)) : JW kC (bC G A) A l D a Q mc ms w ce sl pc lv (pI y :: pI x :: st) := by
  intro p e s m below meth c H locs ls X hr hlk hn9 hK hB hS hl
  have h := k p e s m below meth c H locs ls X hr hlk hn9 hK hB hS hl
  have h9 : ((st.map mv).map fun v => v.category).sum ≤ 8 := by rw [jcat_sum]; exact h8
  refine va_mmin X.1 X.2.1 (X.2.2.1.trans hl.1.symm) X.2.2.2.1 (X.2.2.2.2 _ q1) (X.2.2.2.2 _ q2) (X.2.2.2.2 _ q3) (X.2.2.2.2 _ q4) hf (by show _ ≤ D.2.2.2.2.2.2; omega) hcs.1 hcs.2 hd ?_
  have e9 : (if jI y < jI x then jI y else jI x) = jI (mn32 x y) := by
    unfold mn32
    by_cases hc : w32 y < w32 x
    · rw [if_pos (I_lt.mpr hc), if_pos hc]
    · rw [if_neg (fun z => hc (I_lt.mp z)), if_neg hc]
  rw [e9]
  exact h
theorem j_mmax_long {idx : Nat} {x y : Int} (q1 : Cond.methodLink D.1 idx Lib.MathLoose.max_long.x ∈ lw_all) (q2 : Cond.static Lib.MathLoose.max_long.x ∈ lw_all) (q3 : Cond.initialized "java/lang/Math" ∈ lw_all) (q4 : Cond.code Lib.MathLoose.max_long.x Lib.MathLoose.max_long.code 4 (some .long) ∈ lw_all) (hf : 1 ≤ D.2.2.2.2.2.1) (hlo : 24 ≤ D.2.2.2.2.2.2) (h8 : (st.map jcat).sum ≤ 8) (hcs : ce ≤ mc ∧ sl ≤ ms) (hd : decode D.2.1 pc = .ok (.invokestatic idx, 3)) (k : JW kC (bC G A) A l D a Q mc ms w ce sl (pc + 3) lv (pL (mx64 x y) :: st)) : JW kC (bC G A) A l D a Q mc ms w ce sl pc lv (pL y :: pL x :: st) := by
  intro p e s m below meth c H locs ls X hr hlk hn9 hK hB hS hl
  have h := k p e s m below meth c H locs ls X hr hlk hn9 hK hB hS hl
  have h9 : ((st.map mv).map fun v => v.category).sum ≤ 8 := by rw [jcat_sum]; exact h8
  refine va_mmax_long X.1 X.2.1 (X.2.2.1.trans hl.1.symm) X.2.2.2.1 (X.2.2.2.2 _ q1) (X.2.2.2.2 _ q2) (X.2.2.2.2 _ q3) (X.2.2.2.2 _ q4) hf (by show _ ≤ D.2.2.2.2.2.2; omega) hcs.1 hcs.2 hd ?_
  have e9 : (if jL y < jL x then jL x else jL y) = jL (mx64 x y) := by
    unfold mx64
    by_cases hc : w64 y < w64 x
    · rw [if_pos (L_lt.mpr hc), if_pos hc]
    · rw [if_neg (fun z => hc (L_lt.mp z)), if_neg hc]
  rw [e9]
  exact h
theorem j_mmin_long {idx : Nat} {x y : Int} (q1 : Cond.methodLink D.1 idx Lib.MathLoose.min_long.x ∈ lw_all) (q2 : Cond.static Lib.MathLoose.min_long.x ∈ lw_all) (q3 : Cond.initialized "java/lang/Math" ∈ lw_all) (q4 : Cond.code Lib.MathLoose.min_long.x Lib.MathLoose.min_long.code 4 (some .long) ∈ lw_all) (hf : 1 ≤ D.2.2.2.2.2.1) (hlo : 24 ≤ D.2.2.2.2.2.2) (h8 : (st.map jcat).sum ≤ 8) (hcs : ce ≤ mc ∧ sl ≤ ms) (hd : decode D.2.1 pc = .ok (.invokestatic idx, 3)) (k : JW kC (bC G A) A l D a Q mc ms w ce sl (pc + 3) lv (pL (mn64 x y) :: st)) : JW kC (bC G A) A l D a Q mc ms w ce sl pc lv (pL y :: pL x :: st) := by
  intro p e s m below meth c H locs ls X hr hlk hn9 hK hB hS hl
  have h := k p e s m below meth c H locs ls X hr hlk hn9 hK hB hS hl
  have h9 : ((st.map mv).map fun v => v.category).sum ≤ 8 := by rw [jcat_sum]; exact h8
  refine va_mmin_long X.1 X.2.1 (X.2.2.1.trans hl.1.symm) X.2.2.2.1 (X.2.2.2.2 _ q1) (X.2.2.2.2 _ q2) (X.2.2.2.2 _ q3) (X.2.2.2.2 _ q4) hf (by show _ ≤ D.2.2.2.2.2.2; omega) hcs.1 hcs.2 hd ?_
  have e9 : (if jL y < jL x then jL y else jL x) = jL (mn64 x y) := by
    unfold mn64
    by_cases hc : w64 y < w64 x
    · rw [if_pos (L_lt.mpr hc), if_pos hc]
    · rw [if_neg (fun z => hc (L_lt.mp z)), if_neg hc]
  rw [e9]
  exact h
end CMath
theorem j_nameI {Ω : Type} {Kt : State → Prop} {B : Ω → State → Heap → Prop} {A : Nat → Prop} {l : Launch} {D : MD} {a : List PV} {Q : List Frame → State → State → Prop} {w : Ω} {mc ms ce sl pc : Nat} {lv : List (Nat × PV)} {st : List PV} {x y : Int} (h : some x = some y) (k : JW Kt B A l D a Q mc ms w ce sl pc lv (pI y :: st)) : JW Kt B A l D a Q mc ms w ce sl pc lv (pI x :: st) := by cases h; exact k
theorem j_nameL {Ω : Type} {Kt : State → Prop} {B : Ω → State → Heap → Prop} {A : Nat → Prop} {l : Launch} {D : MD} {a : List PV} {Q : List Frame → State → State → Prop} {w : Ω} {mc ms ce sl pc : Nat} {lv : List (Nat × PV)} {st : List PV} {x y : Int} (h : some x = some y) (k : JW Kt B A l D a Q mc ms w ce sl pc lv (pL y :: st)) : JW Kt B A l D a Q mc ms w ce sl pc lv (pL x :: st) := by cases h; exact k
theorem hcs_step {ce sl mc ms c0 n0 k1 k2 m1 m2 : Nat} (h : ce + c0 ≤ mc ∧ sl + n0 ≤ ms) (hk : c0 = k2 + k1) (hm : n0 = m2 + m1) : (ce + k1 ≤ mc ∧ sl + m1 ≤ ms) ∧ (ce + k1 + k2 ≤ mc ∧ sl + m1 + m2 ≤ ms) := by omega
theorem hcs_ret {ce sl mc ms c0 n0 : Nat} {α : Type} {x r : α} (h : ce + c0 ≤ mc ∧ sl + n0 ≤ ms) : ce ≤ mc ∧ sl ≤ ms := by omega
section CWr
variable {G : CG} {A : Nat → Prop} {l : Launch} {D : MD} {a : List PV} {Q : List Frame → State → State → Prop} {w w1 : Sg} {mc ms ce sl pc : Nat} {lv lv' : List (Nat × PV)}
theorem a_Vr {y : MethodName} {Dy : MD} {b idx n mc1 ms1 : Nat} {v : PV} (As rest : List PV) (hM : JM kC (bC G A) A l y Dy (pR (some b) :: As) w (some v) w1 mc1 ms1) (hq : jwV D.1 Dy idx y) (hdv : jdV y Dy.1 n) (hn : As.length = n) (hrm : jrm D Dy) (hrc : jrecv (bC G A) w b Dy.1) {st : List PV} (hst : st = As.reverse ++ pR (some b) :: rest) (h8 : (rest.map jcat).sum ≤ 8) (hd : decode D.2.1 pc = .ok (.invokevirtual idx, 3)) (hcs : ce + mc1 ≤ mc ∧ sl + ms1 ≤ ms) (k : JW kC (bC G A) A l D a Q mc ms w1 (ce + mc1) (sl + ms1) (pc + 3) lv (v :: rest)) : JW kC (bC G A) A l D a Q mc ms w ce sl pc lv st := j_callV As rest st kC_v (bC_mv G A) hM hq hdv hn hrm hrc hst h8 hd hcs k
theorem a_Vv {y : MethodName} {Dy : MD} {b idx n mc1 ms1 : Nat} (As rest : List PV) (hM : JM kC (bC G A) A l y Dy (pR (some b) :: As) w none w1 mc1 ms1) (hq : jwV D.1 Dy idx y) (hdv : jdV y Dy.1 n) (hn : As.length = n) (hrm : jrm D Dy) (hrc : jrecv (bC G A) w b Dy.1) {st : List PV} (hst : st = As.reverse ++ pR (some b) :: rest) (h8 : (rest.map jcat).sum ≤ 8) (hd : decode D.2.1 pc = .ok (.invokevirtual idx, 3)) (hcs : ce + mc1 ≤ mc ∧ sl + ms1 ≤ ms) (k : JW kC (bC G A) A l D a Q mc ms w1 (ce + mc1) (sl + ms1) (pc + 3) lv rest) : JW kC (bC G A) A l D a Q mc ms w ce sl pc lv st := j_callV As rest st kC_v (bC_mv G A) hM hq hdv hn hrm hrc hst h8 hd hcs k
theorem a_Sr {y : MethodName} {Dy : MD} {idx n mc1 ms1 : Nat} {v : PV} (As rest : List PV) (hM : JM kC (bC G A) A l y Dy As w (some v) w1 mc1 ms1) (hq : jwS D.1 Dy idx y) (hdv : jdV y Dy.1 n) (hn : As.length = n) (hrm : jrm D Dy) {st : List PV} (hst : st = As.reverse ++ rest) (h8 : (rest.map jcat).sum ≤ 8) (hd : decode D.2.1 pc = .ok (.invokestatic idx, 3)) (hcs : ce + mc1 ≤ mc ∧ sl + ms1 ≤ ms) (k : JW kC (bC G A) A l D a Q mc ms w1 (ce + mc1) (sl + ms1) (pc + 3) lv (v :: rest)) : JW kC (bC G A) A l D a Q mc ms w ce sl pc lv st := j_callS As rest st kC_v (bC_mv G A) hM hq hdv hn hrm hst h8 hd hcs k
theorem a_Sv {y : MethodName} {Dy : MD} {idx n mc1 ms1 : Nat} (As rest : List PV) (hM : JM kC (bC G A) A l y Dy As w none w1 mc1 ms1) (hq : jwS D.1 Dy idx y) (hdv : jdV y Dy.1 n) (hn : As.length = n) (hrm : jrm D Dy) {st : List PV} (hst : st = As.reverse ++ rest) (h8 : (rest.map jcat).sum ≤ 8) (hd : decode D.2.1 pc = .ok (.invokestatic idx, 3)) (hcs : ce + mc1 ≤ mc ∧ sl + ms1 ≤ ms) (k : JW kC (bC G A) A l D a Q mc ms w1 (ce + mc1) (sl + ms1) (pc + 3) lv rest) : JW kC (bC G A) A l D a Q mc ms w ce sl pc lv st := j_callS As rest st kC_v (bC_mv G A) hM hq hdv hn hrm hst h8 hd hcs k
theorem a_Fr {x y : MethodName} {Dy : MD} {ci N b idx n cnt mc1 ms1 : Nat} {C : String} {T : u_T} {ty : Nat → FieldType} {v : PV} (As rest : List PV) (hM : JM kC (bC G A) A l y Dy (pR (some b) :: As) w (some v) w1 mc1 ms1) (hq : jwF D.1 Dy idx x y) (hF : ∀ s, kC s → va_Fw Dy.1 x y s) (hdv : jdF x n) (hn : As.length = n) (hrm : jrm D Dy) (hc : zCl ci C T N ty) (hC : C = Dy.1) (ht : zT w b = ci + 1) {st : List PV} (hst : st = As.reverse ++ pR (some b) :: rest) (h8 : (rest.map jcat).sum ≤ 8) (hd : decode D.2.1 pc = .ok (.invokeinterface idx cnt, 5)) (hcs : ce + mc1 ≤ mc ∧ sl + ms1 ≤ ms) (k : JW kC (bC G A) A l D a Q mc ms w1 (ce + mc1) (sl + ms1) (pc + 5) lv (v :: rest)) : JW kC (bC G A) A l D a Q mc ms w ce sl pc lv st := c_callF As rest st hM hq hF hdv hn hrm hc hC ht hst h8 hd hcs k
theorem a_Fv {x y : MethodName} {Dy : MD} {ci N b idx n cnt mc1 ms1 : Nat} {C : String} {T : u_T} {ty : Nat → FieldType} (As rest : List PV) (hM : JM kC (bC G A) A l y Dy (pR (some b) :: As) w none w1 mc1 ms1) (hq : jwF D.1 Dy idx x y) (hF : ∀ s, kC s → va_Fw Dy.1 x y s) (hdv : jdF x n) (hn : As.length = n) (hrm : jrm D Dy) (hc : zCl ci C T N ty) (hC : C = Dy.1) (ht : zT w b = ci + 1) {st : List PV} (hst : st = As.reverse ++ pR (some b) :: rest) (h8 : (rest.map jcat).sum ≤ 8) (hd : decode D.2.1 pc = .ok (.invokeinterface idx cnt, 5)) (hcs : ce + mc1 ≤ mc ∧ sl + ms1 ≤ ms) (k : JW kC (bC G A) A l D a Q mc ms w1 (ce + mc1) (sl + ms1) (pc + 5) lv rest) : JW kC (bC G A) A l D a Q mc ms w ce sl pc lv st := c_callF As rest st hM hq hF hdv hn hrm hc hC ht hst h8 hd hcs k
theorem a_Nr {y : MethodName} {Dy : MD} {b idx n mc1 ms1 : Nat} {host : String} {v : PV} (As rest : List PV) (hM : JM kC (bC G A) A l y Dy (pR (some b) :: As) w (some v) w1 mc1 ms1) (hq : Cond.methodLinkNest D.1 idx y host ∈ lw_tbl ∧ Cond.instanceMethod y ∈ lw_all ∧ Cond.selects Dy.1 y y ∈ lw_all ∧ Cond.initialized y.cls ∈ lw_all ∧ Cond.code y Dy.2.1 Dy.2.2.1 Dy.2.2.2.1 ∈ lw_all) (hdv : jdV y Dy.1 n) (hn : As.length = n) (hrm : jrm D Dy) (hrc : jrecv (bC G A) w b Dy.1) {st : List PV} (hst : st = As.reverse ++ pR (some b) :: rest) (h8 : (rest.map jcat).sum ≤ 8) (hd : decode D.2.1 pc = .ok (.invokevirtual idx, 3)) (hcs : ce + mc1 ≤ mc ∧ sl + ms1 ≤ ms) (k : JW kC (bC G A) A l D a Q mc ms w1 (ce + mc1) (sl + ms1) (pc + 3) lv (v :: rest)) : JW kC (bC G A) A l D a Q mc ms w ce sl pc lv st := c_callVN As rest st hM hq hdv hn hrm hrc hst h8 hd hcs k
theorem a_Nv {y : MethodName} {Dy : MD} {b idx n mc1 ms1 : Nat} {host : String} (As rest : List PV) (hM : JM kC (bC G A) A l y Dy (pR (some b) :: As) w none w1 mc1 ms1) (hq : Cond.methodLinkNest D.1 idx y host ∈ lw_tbl ∧ Cond.instanceMethod y ∈ lw_all ∧ Cond.selects Dy.1 y y ∈ lw_all ∧ Cond.initialized y.cls ∈ lw_all ∧ Cond.code y Dy.2.1 Dy.2.2.1 Dy.2.2.2.1 ∈ lw_all) (hdv : jdV y Dy.1 n) (hn : As.length = n) (hrm : jrm D Dy) (hrc : jrecv (bC G A) w b Dy.1) {st : List PV} (hst : st = As.reverse ++ pR (some b) :: rest) (h8 : (rest.map jcat).sum ≤ 8) (hd : decode D.2.1 pc = .ok (.invokevirtual idx, 3)) (hcs : ce + mc1 ≤ mc ∧ sl + ms1 ≤ ms) (k : JW kC (bC G A) A l D a Q mc ms w1 (ce + mc1) (sl + ms1) (pc + 3) lv rest) : JW kC (bC G A) A l D a Q mc ms w ce sl pc lv st := c_callVN As rest st hM hq hdv hn hrm hrc hst h8 hd hcs k
end CWr
