/-! class objects, arrays of references, System.arraycopy -/
section CCls
variable {G : CG} {A : Nat → Prop} {l : Launch} {D : MD} {a : List PV} {Q : List Frame → State → State → Prop} {w w1 : Sg} {mc ms ce sl pc : Nat} {lv lv' : List (Nat × PV)} {st : List PV}
theorem any_of {U : State} {H : Heap} {d : Nat} (hOT : zOk "java/lang/Object" OT) (hK : kC U) (hB : bC G A w U H) (hd9 : zT w d ∈ OT) : va_Any "java/lang/Object" U H d := by
  obtain ⟨ci, N, C, T, ty, e1, hcl, e2⟩ := hOT _ hd9
  obtain ⟨cell, g1, g2, g3⟩ := c_recv hcl e1 U H hB
  obtain ⟨kC9, hkC, -⟩ := Vm.findClass_spec g3
  refine ⟨cell, g1, g2, ⟨kC9, hkC⟩, fun comp k3 => ?_⟩
  rcases e2 with rfl | e2
  · have h1 := (hB.1.1 ci _ hcl.2.1).2
    have e5 : comp = G.1 ci := Option.some.inj (k3.symm.trans h1.1)
    have e6 : cell.cls = G.1 ci := Option.some.inj (g3.symm.trans h1.1)
    rw [e5, e6]; exact va_assign h1
  · obtain ⟨c0, t0, f1, f2, f3⟩ := Cond.castable_spec (va_Nw.use (A := #[]) rfl (hK.1 _ e2 rfl))
    cases Option.some.inj (g3.symm.trans f1)
    cases Option.some.inj (k3.symm.trans f2)
    exact f3
theorem c_ldcM9 {idx : Nat} (hf : Cond.classLink D.1 idx "[Ljava/lang/Object;" ∈ lw_all) (hd : decode D.2.1 pc = .ok (.ldc idx, 2)) (kk : JW kC (bC G A) A l D a Q mc ms w ce sl (pc + 2) lv (pR (G.2.2.2.2 21) :: st)) : JW kC (bC G A) A l D a Q mc ms w ce sl pc lv st := by
  intro p e s m below meth c H locs ls X hr hlk hn hK hB hS hl
  have h9 := kk p e s m below meth c H locs ls X hr hlk hn hK hB hS hl
  obtain ⟨-, m9, m10, e1, e2, e3, e4⟩ := hB.2.2.2.2
  rw [e1] at h9
  exact va_ldcM X.1 X.2.1 X.2.2.2.1 (X.2.2.2.2 _ hf) e3 hd h9
theorem c_ldcM10 {idx : Nat} (hf : Cond.classLink D.1 idx "java/util/ArrayList" ∈ lw_all) (hd : decode D.2.1 pc = .ok (.ldc idx, 2)) (kk : JW kC (bC G A) A l D a Q mc ms w ce sl (pc + 2) lv (pR (G.2.2.2.2 22) :: st)) : JW kC (bC G A) A l D a Q mc ms w ce sl pc lv st := by
  intro p e s m below meth c H locs ls X hr hlk hn hK hB hS hl
  have h9 := kk p e s m below meth c H locs ls X hr hlk hn hK hB hS hl
  obtain ⟨-, m9, m10, e1, e2, e3, e4⟩ := hB.2.2.2.2
  rw [e2] at h9
  exact va_ldcM X.1 X.2.1 X.2.2.2.1 (X.2.2.2.2 _ hf) e4 hd h9
abbrev yGC : MethodName := ⟨"java/lang/Object", "getClass", "()Ljava/lang/Class;"⟩
theorem c_getC {idx : Nat} {r v : Option Nat} (h : zcls G w r = some v) (h6 : ∀ b, r = some b → zT w b = 105) (q1 : Cond.methodLink D.1 idx yGC ∈ lw_all) (q2 : Cond.declares yGC ∈ lw_tbl) (q3 : Cond.selects "[Ljava/lang/Object;" yGC yGC ∈ lw_all) (q4 : Cond.instanceMethod yGC ∈ lw_all) (q5 : Cond.native yGC ∈ lw_all) (hf : 1 ≤ D.2.2.2.2.2.1) (hlo : 24 ≤ D.2.2.2.2.2.2) (h8 : (st.map jcat).sum ≤ 8) (hd : decode D.2.1 pc = .ok (.invokevirtual idx, 3)) (kk : JW kC (bC G A) A l D a Q mc ms w ce sl (pc + 3) lv (pR v :: st)) : JW kC (bC G A) A l D a Q mc ms w ce sl pc lv (pR r :: st) := by
  intro p e s m below meth c H locs ls X hr hlk hn hK hB hS hl
  have h9 := kk p e s m below meth c H locs ls X hr hlk hn hK hB hS hl
  have h8 : ((st.map mv).map fun v => v.category).sum ≤ 8 := by rw [jcat_sum]; exact h8
  obtain ⟨b, e0, h2⟩ := ob h
  clear h
  subst e0
  have ht := h6 b rfl
  rw [if_pos ht] at h2
  cases h2
  obtain ⟨-, m9, m10, e1, e2, e3, e4⟩ := hB.2.2.2.2
  rw [e1] at h9
  obtain ⟨cell9, g1, g2, g3, g4, -⟩ := bC_arrR (t := 5) hB ht (by decide) (by decide)
  exact va_getC X.1 X.2.1 (X.2.2.1.trans hl.1.symm) X.2.2.2.1 (X.2.2.2.2 _ q1) (va_Nw.use rfl (hK.1 _ q2 rfl)) (X.2.2.2.2 _ q3) (X.2.2.2.2 _ q4) (X.2.2.2.2 _ q5) e3 ⟨_, g1, nst g4, by rw [g2]; exact va_nmO (hB.1.2 4 (G.2.2.1 5, .object "java/lang/Object") rfl).2 rfl⟩ hf (by show _ ≤ D.2.2.2.2.2.2; omega) hd h9
theorem c_getC5 {idx b : Nat} {r : Option Nat} (hr0 : r = some b) (ht : zT w b = 105) (q1 : Cond.methodLink D.1 idx yGC ∈ lw_all) (q2 : Cond.declares yGC ∈ lw_tbl) (q3 : Cond.selects "[Ljava/lang/Object;" yGC yGC ∈ lw_all) (q4 : Cond.instanceMethod yGC ∈ lw_all) (q5 : Cond.native yGC ∈ lw_all) (hf : 1 ≤ D.2.2.2.2.2.1) (hlo : 24 ≤ D.2.2.2.2.2.2) (h8 : (st.map jcat).sum ≤ 8) (hd : decode D.2.1 pc = .ok (.invokevirtual idx, 3)) (kk : JW kC (bC G A) A l D a Q mc ms w ce sl (pc + 3) lv (pR (G.2.2.2.2 21) :: st)) : JW kC (bC G A) A l D a Q mc ms w ce sl pc lv (pR r :: st) :=
  c_getC (v := G.2.2.2.2 21) (by rw [hr0]; exact if_pos ht) (fun b' h' => by rw [hr0] at h'; cases h'; exact ht) q1 q2 q3 q4 q5 hf hlo h8 hd kk
theorem c_anew {idx : Nat} {i : Int} {q : Nat × Sg} {c1 n1 : Nat} (h : zNewQ w i = some (q, c1, n1)) (hf : Cond.classLink D.1 idx "java/lang/Object" ∈ lw_all) (hd : decode D.2.1 pc = .ok (.anewarray idx, 3)) (hcs : ce + c1 ≤ mc ∧ sl + n1 ≤ ms) (kk : JW kC (bC G A) A l D a Q mc ms q.2 (ce + c1) (sl + n1) (pc + 3) lv (pR (some q.1) :: st)) : JW kC (bC G A) A l D a Q mc ms w ce sl pc lv (pI i :: st) := by
  intro p e s m below meth c H locs ls X hr hlk hn hK hB hS hl
  unfold zNewQ at h
  by_cases hi : 0 ≤ w32 i ∧ w32 i ≤ 1000000
  · rw [if_pos hi] at h
    cases h
    have hN := hB.2.2.2.1.1
    have hcl : (jI i).toNatClampNeg = (w32 i).toNat := clamp_I i
    refine W.anew X.1 X.2.1 X.2.2.2.1 (X.2.2.2.2 _ hf) (va_AO.use hK.2.1) rfl hd rfl (n := jI i) (fun z => by have := I_lt.mp (show jI i < jI 0 from z); rw [show w32 0 = 0 from rfl] at this; omega) (by rw [hcl]; omega) hcs.1 (by rw [hcl]; exact hcs.2) fun cA kA comp f1 f2 f3 f4 => ?_
    rw [hcl]
    generalize hH1 : H.push ({ cls := cA, slots := Array.replicate (w32 i).toNat .null, vm := .none } : Cell) = H1
    have z1 : H1.size = H.size + 1 := by rw [← hH1, Array.size_push]
    have e1 : H1[H.size]? = some (arrV cA (w32 i).toNat (fun _ => .null)) := by rw [← hH1, Array.getElem?_push_size, ← arrV_new]
    have o1 : ∀ q : Nat, q < H.size → H1[q]? = H[q]? := fun q hq => by rw [← hH1, Array.getElem?_push, if_neg (Nat.ne_of_lt hq)]
    have hcA : cA = G.2.2.1 5 := Option.some.inj (f1.symm.trans (va_nmO (hB.1.2 4 (G.2.2.1 5, .object "java/lang/Object") rfl).2 rfl))
    have hB1 : bC G A (znew w 105 (w32 i).toNat) s H1 := by
      refine bC_grow hB z1 o1 ⟨fun cj h1 h2 => ?_, fun t' h1 h2 h3 => ?_⟩ (by omega)
      · have h1 : va_up (zT w) (zN w) 105 (zN w) = cj + 1 := h1
        unfold va_up at h1
        rw [if_pos rfl] at h1
        have := h2.1
        omega
      · have h1 : va_up (zT w) (zN w) 105 (zN w) = 100 + t' := h1
        unfold va_up at h1
        rw [if_pos rfl] at h1
        have : t' = 5 := by omega
        subst this
        have e3 : zL (znew w 105 (w32 i).toNat) (zN w) = (w32 i).toNat := if_pos rfl
        have e4 : zB (znew w 105 (w32 i).toNat) (zN w) = fun _ => none := if_pos rfl
        refine aOb.of ?_
        rw [hN, e1, ← hN, e3, hcA]
        congr 2
        funext j
        show _ = va_rf (zB (znew w 105 (w32 i).toNat) (zN w) j)
        rw [e4]
        rfl
    have hk := kk p e s m below meth c H1 locs ls X hr hlk hn hK hB1 (hS_grow hS z1 o1) hl
    rw [show (zN w, znew w 105 (w32 i).toNat).1 = H.size from hN] at hk
    exact hk
  · rw [if_neg hi] at h; cases h
theorem c_acpy {idx : Nat} {r0 r1 : Option Nat} {sp dp n : Int} (h : zcpy G.2.2.2.1 w r0 sp r1 dp n = some w1) (hOT : zOk "java/lang/Object" OT) (q1 : Cond.methodLink D.1 idx arraycopyName ∈ lw_all) (q2 : Cond.native arraycopyName ∈ lw_all) (q3 : Cond.static arraycopyName ∈ lw_all) (q4 : Cond.initialized "java/lang/System" ∈ lw_all) (hf : 1 ≤ D.2.2.2.2.2.1) (hlo : 8 + (nativeFrameWords "java/lang/System" "arraycopy" 5 + 11) ≤ D.2.2.2.2.2.2) (h8 : (st.map jcat).sum ≤ 8) (hd : decode D.2.1 pc = .ok (.invokestatic idx, 3)) (kk : JW kC (bC G A) A l D a Q mc ms w1 ce sl (pc + 3) lv st) : JW kC (bC G A) A l D a Q mc ms w ce sl pc lv (pI n :: pI dp :: pR r1 :: pI sp :: pR r0 :: st) := by
  intro p e s m below meth c H locs ls X hr hlk hn hK hB hS hl
  have h8 : ((st.map mv).map fun v => v.category).sum ≤ 8 := by rw [jcat_sum]; exact h8
  obtain ⟨a0, e0, h2⟩ := ob h
  obtain ⟨a1, e1, h3⟩ := ob h2
  clear h h2
  subst e0
  subst e1
  by_cases hc : (zT w a0 = 105 ∧ zT w a1 = 105 ∧ G.2.2.2.1 ≤ a1) ∧ (0 ≤ w32 sp ∧ 0 ≤ w32 dp ∧ 0 ≤ w32 n) ∧ (w32 sp + w32 n ≤ zL w a0 ∧ w32 dp + w32 n ≤ zL w a1) ∧ (∀ i, i < (w32 n).toNat → zcast w OT (zB w a0 ((w32 sp).toNat + i)) = some ())
  · rw [if_pos hc] at h3
    cases h3
    obtain ⟨⟨t0, t1, hb⟩, ⟨p1, p2, p3⟩, ⟨l0, l1⟩, hel⟩ := hc
    obtain ⟨c0, y1, y2, y3, y4, y5, y6, y7, -⟩ := bC_arrR (t := 5) hB t0 (by decide) (by decide)
    have hc1 := bC_arr (t := 5) hB t1 (by decide) (by decide) hb
    have hTy := hB.1.2 4 (G.2.2.1 5, .object "java/lang/Object") rfl
    have neg : ∀ z : Int, 0 ≤ w32 z → ¬ jI z < 0 := fun z hz q => by have := I_lt.mp (show jI z < jI 0 from q); rw [show w32 0 = 0 from rfl] at this; omega
    obtain ⟨-, k0, hk0, cm0, hkk0⟩ := hTy.1 (zL w a0) (eV w 5 a0)
    obtain ⟨-, k1, hk1, cm1, hkk1⟩ := hTy.1 (zL w a1) (eV w 5 a1)
    intro T hT X9
    obtain ⟨vm', X', step⟩ := X9.arraycopy X.1 X.2.2.2.1 (X.2.2.2.2 _ q1) (X.2.2.2.2 _ q2) (X.2.2.2.2 _ q3) (X.2.2.2.2 _ q4) (src := a0) (dst := a1) (cs := c0) (cd := arrV (G.2.2.1 5) (zL w a1) (eV w 5 a1)) (srcPos := jI sp) (destPos := jI dp) (n := jI n) (by rw [hT]; exact y1) (by rw [hT]; exact hc1)
      y4 (fun _ h => by cases h) y3 (fun h => by cases h) (by rw [y2]; exact hk0) hk1 hkk0 hkk1 rfl (neg sp p1) (neg dp p2) (neg n p3)
      (by rw [toInt_I, toInt_I]; omega)
      (by rw [toInt_I, toInt_I, arrV_size]; omega)
      (fun vm₁ hal i hi => by
        rw [clamp_I] at hi
        rw [clamp_I]
        have e : c0.slots.getD ((w32 sp).toNat + i) .null = va_rf (zB w a0 ((w32 sp).toNat + i)) := by
          rw [Array.getD_eq_getD_getElem?, y7 _ (by omega)]
          rfl
        rw [e]
        have hz := hel i hi
        cases hy : zB w a0 ((w32 sp).toNat + i) with
        | none => exact ⟨rfl, trivial⟩
        | some y =>
          rw [hy] at hz
          have hd9 : zT w y ∈ OT := by
            by_cases hq : zT w y ∈ OT
            · exact hq
            · have hz : (if zT w y ∈ OT then some () else none) = some () := hz
              rw [if_neg hq] at hz; cases hz
          obtain ⟨cellV, g1, g2, ⟨kC, hkC⟩, hasg⟩ := any_of hOT hK hB hd9
          obtain ⟨kA, comp, r1, r2, r3, -⟩ := hTy.2
          cases hk1.symm.trans r1
          cases hkk1.symm.trans r2
          obtain ⟨kE, hkE, -⟩ := Vm.findClass_spec r3
          obtain ⟨kC', hkC', -⟩ := hal.2.2 _ _ hkC
          obtain ⟨kE', hkE', -⟩ := hal.2.2 _ _ hkE
          refine ⟨rfl, cellV, (show T.heap[y]? = some cellV by rw [hT]; exact g1), (fun q h => by rw [h] at g2; cases g2), ⟨kC', hkC'⟩, ?_, ?_⟩
          · exact ⟨kE', hkE'⟩
          · show vm₁.assignable _ _ = true
            rw [hal.assignable]
            exact hasg _ r3)
      (g := F0 m pc ls (.int (jI n) :: .int (jI dp) :: .ref a1 :: .int (jI sp) :: .ref a0 :: st.map mv)) rfl (X.2.2.1.trans hl.1.symm).symm (rest := st.map mv) rfl (by rw [X.2.1]; exact hd) hf (by show 2 * 0 + _ + _ ≤ D.2.2.2.2.2.2; omega)
    have e1 : copied (arrV (G.2.2.1 5) (zL w a0) (eV w 5 a0)) (arrV (G.2.2.1 5) (zL w a1) (eV w 5 a1)) (jI sp) (jI dp) (jI n) = arrV (G.2.2.1 5) (zL w a1) (fun j => va_rf (va_cpy (zB w a0) (zB w a1) (w32 sp).toNat (w32 dp).toNat (w32 n).toNat j)) := by
      have h9 := va_copied (fun z => va_rf z) (G.2.2.1 5) (G.2.2.1 5) (n0 := zL w a0) (n1 := zL w a1) (sp := (w32 sp).toNat) (dp := (w32 dp).toNat) (n := (w32 n).toNat) (zB w a0) (zB w a1) (by omega)
      rw [← clamp_I, ← clamp_I, ← clamp_I] at h9
      rw [← clamp_I, ← clamp_I, ← clamp_I]
      exact h9
    have hst : c0.stretch (jI sp).toNatClampNeg (jI n).toNatClampNeg = (arrV (G.2.2.1 5) (zL w a0) (eV w 5 a0)).stretch (jI sp).toNatClampNeg (jI n).toNatClampNeg := by
      unfold Cell.stretch
      refine List.map_congr_left (fun i hi => ?_)
      have hi := List.mem_range.mp hi
      rw [clamp_I] at hi
      rw [clamp_I, Array.getD_eq_getD_getElem?, Array.getD_eq_getD_getElem?, y7 _ (by omega), arrV_read _ _ (by omega)]
    have hcp : copied c0 (arrV (G.2.2.1 5) (zL w a1) (eV w 5 a1)) (jI sp) (jI dp) (jI n) = copied (arrV (G.2.2.1 5) (zL w a0) (eV w 5 a0)) (arrV (G.2.2.1 5) (zL w a1) (eV w 5 a1)) (jI sp) (jI dp) (jI n) := by
      unfold copied
      rw [hst]
    rw [hcp, e1] at X' step
    rw [hst] at X'
    have hlt : a1 < H.size := (Array.getElem?_eq_some_iff.mp hc1).1
    generalize hcell : arrV (G.2.2.1 5) (zL w a1) (fun j => va_rf (va_cpy (zB w a0) (zB w a1) (w32 sp).toNat (w32 dp).toNat (w32 n).toNat j)) = cell9 at X' step
    have hheap : ((T.setVm vm').setCell a1 cell9).heap = H.setIfInBounds a1 cell9 := by rw [← hT]; rfl
    have oq : ∀ q : Nat, q ≠ a1 → (H.setIfInBounds a1 cell9)[q]? = H[q]? := fun q hq => by simp [Array.getElem?_setIfInBounds, Ne.symm hq]
    have h1 : (H.setIfInBounds a1 cell9)[a1]? = some cell9 := by simp [Array.getElem?_setIfInBounds, hlt]
    have hz : (H.setIfInBounds a1 cell9).size = H.size := by simp
    have hA := hB.2.2.2.1.2.2.1 a1 (by rw [t1]; omega) hb
    have hne : ∀ q, q ≠ a1 → zB (zsC w a1 (va_cpy (zB w a0) (zB w a1) (w32 sp).toNat (w32 dp).toNat (w32 n).toNat)) q = zB w q := fun q hq => if_neg hq
    have hB1 : bC G A (zsC w a1 (va_cpy (zB w a0) (zB w a1) (w32 sp).toNat (w32 dp).toNat (w32 n).toNat)) s (H.setIfInBounds a1 cell9) := by
      refine bC_write hB (by rw [t1]; omega) hb hz oq ⟨fun cj h3 h4 => ?_, fun t' h3 h4 h5 => ?_⟩ rfl (fun q hq => ⟨rfl, rfl, rfl, rfl, hne q hq⟩) rfl
      · have h3 : zT w a1 = cj + 1 := h3
        have := h4.1
        omega
      · have h3 : zT w a1 = 100 + t' := h3
        have : t' = 5 := by omega
        subst this
        refine aOb.of ?_
        rw [h1, ← hcell]
        congr 2
        funext j
        show _ = va_rf (va_up (zB w) a1 _ a1 j)
        unfold va_up
        rw [if_pos rfl]
    obtain ⟨t, a9, b9⟩ := kk p e s m below meth c _ (locs ++ List.map (fun (q : Value × Nat) => ({ base := a1, slot := (jI dp).toNatClampNeg + q.2 } : Loc)) ((arrV (G.2.2.1 5) (zL w a0) (eV w 5 a0)).stretch (jI sp).toNatClampNeg (jI n).toNatClampNeg).zipIdx) ls X hr hlk hn hK hB1 ⟨by rw [hz]; exact hS.1, fun q g1 g2 => by
        rw [oq q (fun e => g2 (by rw [e]; exact hA))]
        exact hS.2.1 q g1 g2, fun q hq => by
        rcases List.mem_append.mp hq with h | h
        · exact hS.2.2 q h
        · obtain ⟨z, -, hz⟩ := List.mem_map.mp h
          rw [← hz]
          exact hA⟩ hl _ hheap X'
    exact ⟨t, step t a9, b9⟩
  · rw [if_neg hc] at h3; cases h3
end CCls
