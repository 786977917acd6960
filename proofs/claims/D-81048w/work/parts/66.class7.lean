/-! virtual calls found by the receiver -/
/-- at any call of x on r with As: the world w goes to w1, the answer is o; F frames, Lc words of locals are enough -/
def VD (G : CG) (A : Nat → Prop) (l : Launch) (x : MethodName) (F Lc : Nat) (r : Option Nat) (As : List PV) (w : Sg) (o : Option PV) (w1 : Sg) : Prop :=
  ∀ (D : MD) (a : List PV) (Q : List Frame → State → State → Prop) (mc ms ce sl pc : Nat) (lv : List (Nat × PV)) (idx : Nat) (rest st st1 : List PV), Cond.methodLink D.1 idx x ∈ lw_all → F + 1 ≤ D.2.2.2.2.2.1 → Lc ≤ D.2.2.2.2.2.2 → st = As.reverse ++ pR r :: rest → st1 = o.toList ++ rest → (rest.map jcat).sum ≤ 8 → decode D.2.1 pc = .ok (.invokevirtual idx, 3) → (ce ≤ mc ∧ sl ≤ ms) →
    JW kC (bC G A) A l D a Q mc ms w1 ce sl (pc + 3) lv st1 → JW kC (bC G A) A l D a Q mc ms w ce sl pc lv st
section CVD
variable {G : CG} {A : Nat → Prop} {l : Launch} {w w1 : Sg} {x y : MethodName} {Dy : MD} {F Lc b n : Nat} {C owner : String} {o1 : Option PV} {As : List PV}
theorem vd_of (hM : JM kC (bC G A) A l y Dy (pR (some b) :: As) w o1 w1 0 0) (hn : As.length = n) (hF : Dy.2.2.2.2.2.1 ≤ F) (hL : 8 + (Dy.2.2.1 + 11) + Dy.2.2.2.2.2.2 ≤ Lc) (hrc : jrecv (bC G A) w b C)
    (hcw : ∀ (D : MD) (mc ms idx : Nat) (s : State) (args : Array Value), Cond.methodLink D.1 idx x ∈ lw_all → (∀ w ∈ lw_all, w.before args s = true) → kC s → Dy.2.2.2.2.2.1 + 1 ≤ D.2.2.2.2.2.1 ∧ 8 + (Dy.2.2.1 + 11) + Dy.2.2.2.2.2.2 ≤ D.2.2.2.2.2.2 → va_CU (jroom D mc ms) s args D.1 C owner idx x y Dy.2.1 Dy.2.2.1 Dy.2.2.2.1 (ws_ y Dy.2.1 Dy.2.2.1 Dy.2.2.2.1) (jroom Dy 0 0) 0 0 n) : VD G A l x F Lc (some b) As w o1 w1 := by
  intro D a Q mc ms ce sl pc lv idx rest st st1 hq hF1 hL1 hst hst1 h8 hd hcs k
  intro p e s m below meth c H locs ls X hr hlk hn9 hK hB hS hl
  subst hst
  subst hst1
  refine jw_call (o1 := o1) (w1 := w1) (B := bC G A) (mc := 0) (ms := 0) (rest := rest.map mv) (a := ((pR (some b) :: As).map mv).toArray) (va_runU (As := As.map mv) (rest := rest.map mv) (b := b) X hM (hcw D mc ms idx s _ hq X.2.2.2.2 hK ⟨by omega, by omega⟩) ⟨jblind kC_v (bC_mv G A) (pR (some b) :: As), hrc s H hB, fun U hU hW => ⟨rfl, kC_v.1 s U hW hK, by rw [hU]; exact bC_mv G A w s U H hW.alike hB⟩⟩ rfl (by rw [List.length_map]; exact hn) hl.1 (by simp [mv, va_rf]) (lv_room (by rw [jcat_sum]; exact h8)) hd hcs) hS ?_
  intro t H1 locs1 ht9 hvm hB1 hS1
  have h := k p e s m below meth c H1 locs1 ls X hr hlk hn9 hK (bC_mv G A w1 t s H1 hvm.symm hB1) hS1 hl
  rw [map_toList]
  exact h
def jdO (owner : String) (x : MethodName) (n : Nat) : Prop := owner ≠ "java/lang/invoke/MethodHandle" ∧ owner ≠ "java/lang/invoke/VarHandle" ∧ (parseMethodDescriptor x.desc).map (fun d => d.parameters.length) = some n
theorem goodU {own : String} {idx : Nat} (q1 : Cond.methodLink own idx x ∈ lw_all) (q2 : Cond.sameMethod x.cls owner x.name x.desc ∈ lw_all) (q3 : Cond.selects C x y ∈ lw_all) (q4 : Cond.instanceMethod y ∈ lw_all) (q5 : Cond.initialized y.cls ∈ lw_all) (q6 : Cond.code y Dy.2.1 Dy.2.2.1 Dy.2.2.2.1 ∈ lw_all) : GoodIn lw_all (va_wsU own idx C owner x y (ws_ y Dy.2.1 Dy.2.2.1 Dy.2.2.2.1)) := by
  refine lw_app (fun w9 h9 => ?_) (lw_meth q6)
  simp only [List.mem_cons, List.not_mem_nil, or_false] at h9
  rcases h9 with rfl | rfl | rfl | rfl | rfl
  · exact q1
  · exact q2
  · exact q3
  · exact q4
  · exact q5
theorem vd_abs (hM : JM kC (bC G A) A l y Dy (pR (some b) :: As) w o1 w1 0 0) (hn : As.length = n) (hF : Dy.2.2.2.2.2.1 ≤ F) (hL : 8 + (Dy.2.2.1 + 11) + Dy.2.2.2.2.2.2 ≤ Lc) (hrc : jrecv (bC G A) w b C) (hd : jdO owner x n)
    (q2 : Cond.sameMethod x.cls owner x.name x.desc ∈ lw_all) (q3 : Cond.selects C x y ∈ lw_all) (q4 : Cond.instanceMethod y ∈ lw_all) (q5 : Cond.initialized y.cls ∈ lw_all) (q6 : Cond.code y Dy.2.1 Dy.2.2.1 Dy.2.2.2.1 ∈ lw_all) (q7 : Cond.declares ⟨owner, x.name, x.desc⟩ ∈ lw_tbl) : VD G A l x F Lc (some b) As w o1 w1 :=
  vd_of (owner := owner) hM hn hF hL hrc (fun D mc ms idx s args q1 hts hK hR => va_cwA n hts (goodU q1 q2 q3 q4 q5 q6) rfl rfl rfl (hK.1 _ q7 rfl) hd hR)
theorem vd_inh (hM : JM kC (bC G A) A l y Dy (pR (some b) :: As) w o1 w1 0 0) (hn : As.length = n) (hF : Dy.2.2.2.2.2.1 ≤ F) (hL : 8 + (Dy.2.2.1 + 11) + Dy.2.2.2.2.2.2 ≤ Lc) (hrc : jrecv (bC G A) w b C) (hd : jdO owner x n) (hyx : y = ⟨owner, x.name, x.desc⟩)
    (q2 : Cond.sameMethod x.cls owner x.name x.desc ∈ lw_all) (q3 : Cond.selects C x y ∈ lw_all) (q4 : Cond.instanceMethod y ∈ lw_all) (q5 : Cond.initialized y.cls ∈ lw_all) (q6 : Cond.code y Dy.2.1 Dy.2.2.1 Dy.2.2.2.1 ∈ lw_all) : VD G A l x F Lc (some b) As w o1 w1 :=
  vd_of (owner := owner) hM hn hF hL hrc (fun D mc ms idx s args q1 hts hK hR => va_cwU n hts (goodU q1 q2 q3 q4 q5 q6) rfl rfl rfl hyx hd hR)
theorem vd_over (hM : JM kC (bC G A) A l y Dy (pR (some b) :: As) w o1 w1 0 0) (hn : As.length = n) (hF : Dy.2.2.2.2.2.1 ≤ F) (hL : 8 + (Dy.2.2.1 + 11) + Dy.2.2.2.2.2.2 ≤ Lc) (hrc : jrecv (bC G A) w b C) (hd : jdO owner x n) {b0 : ByteArray} {m0 : Nat} {r0 : Option FieldType}
    (q2 : Cond.sameMethod x.cls owner x.name x.desc ∈ lw_all) (q3 : Cond.selects C x y ∈ lw_all) (q4 : Cond.instanceMethod y ∈ lw_all) (q5 : Cond.initialized y.cls ∈ lw_all) (q6 : Cond.code y Dy.2.1 Dy.2.2.1 Dy.2.2.2.1 ∈ lw_all) (q7 : Cond.instanceMethod ⟨owner, x.name, x.desc⟩ ∈ lw_all) (q8 : Cond.code ⟨owner, x.name, x.desc⟩ b0 m0 r0 ∈ lw_all) : VD G A l x F Lc (some b) As w o1 w1 := by
  refine vd_of (owner := owner) hM hn hF hL hrc (fun D mc ms idx s args q1 hts hK hR => va_cwO n hts ?_ rfl rfl rfl q8 hd hR)
  refine lw_app (fun w9 h9 => ?_) (lw_meth q6)
  simp only [List.mem_cons, List.not_mem_nil, or_false] at h9
  rcases h9 with rfl | rfl | rfl | rfl | rfl | rfl
  · exact q1
  · exact q2
  · exact q7
  · exact q3
  · exact q4
  · exact q5
theorem e_recv {k : Nat} (ht : zT w b = 23 + k) (hk : k < 6) : jrecv (bC G A) w b (sgN k) := by
  intro s H hB
  obtain ⟨cell, g1, g2, g3, g4⟩ := hB.2.2.1 b k ht hk
  exact ⟨cell, g1, g2, g3⟩
end CVD
