/-! THE LAW'S BEGINNING: the two objects are made -/
theorem bS_narrow {AS BS : Nat → Prop} {aK aV : Nat} {f : Option Nat} {U : State} {H : Heap} (h : bS AS aK aV f () U H) (hAB : ∀ q, BS q → AS q) : bS BS aK aV f () U H := ⟨h.1.narrow hAB, h.2.1.narrow hAB, h.2.2.1.narrow hAB, h.2.2.2.1.narrow hAB, h.2.2.2.2.1.narrow hAB, h.2.2.2.2.2.narrow hAB⟩
section
variable {G : CG} {b L : Nat} {xs : Nat → Int32} {l : Launch} {D : MD} {a : List PV} {Q : List Frame → State → State → Prop} {u u1 : Sg} {mc ms ce sl pc : Nat} {lv : List (Nat × PV)} {st : List PV}
theorem y_new {Kt : State → Prop} {A : Nat → Prop} {w : Sg} {ci N idx : Nat} {C : String} {T : u_T} {ty : Nat → FieldType} {q : Nat × Sg} {c1 n1 : Nat} (h : zNew w (ci + 1) N = some (q, c1, n1)) (hc : zCl ci C T N ty) (hm : zMk ci C N ty) (hf : Cond.classLink D.1 idx C ∈ lw_all) (hd : decode D.2.1 pc = .ok (.new idx, 3)) (hcs : ce + c1 ≤ mc ∧ sl + n1 ≤ ms) (kk : JW Kt (bC G A) A l D a Q mc ms q.2 (ce + c1) (sl + n1) (pc + 3) lv (pR (some q.1) :: st)) : JW Kt (bC G A) A l D a Q mc ms w ce sl pc lv st := by
  intro p e s m below meth c H locs ls X hr hlk hn hK hB hS hl
  cases h
  have hKn := hB.1.1 ci _ hc.2.1
  have hN := hB.2.2.2.1.1
  refine W.newcK X.1 X.2.1 X.2.2.2.1 (X.2.2.2.2 _ hf) (X.2.2.2.2 _ hm.1) (X.2.2.2.2 _ hm.2.1) rfl hd hcs.1 hcs.2 hKn.2.1 (h := zN w) hN.symm fun H1 kC9 hkC e1 z1 o1 => ?_
  have z1 : H1.size = H.size + 1 := by rw [z1, hN]
  have o1 : ∀ q, q < H.size → H1[q]? = H[q]? := fun q hq => o1 q (by rw [hN]; exact hq)
  have hob := (u_born ty X.2.2.2.2 hc.2.2.1 hKn hkC e1 hc.2.2.2.1)
  have hi := hc.1
  have hB1 : bC G A (znew w (ci + 1) 0) s H1 := by
    refine bC_grow hB z1 o1 ⟨fun cj h1 h2 => ?_, fun t h1 h2 h3 => ?_⟩ (by unfold isO at hi; omega)
    · have h1 : va_up (zT w) (zN w) (ci + 1) (zN w) = cj + 1 := h1
      unfold va_up at h1
      rw [if_pos rfl] at h1
      have : cj = ci := by omega
      subst this
      refine ⟨_, hc.2.1, oOb.of (hob.to fun k hk => ?_), fun _ => ⟨fun c9 h9 => by cases Option.some.inj (e1.symm.trans h9); exact ⟨rfl, rfl⟩, hB.2.2.2.1.2.2.2.2.2⟩⟩
      rw [hm.2.2 k hk]
      unfold oV dV
      have e1 : zI (znew w (cj + 1) 0) (zN w) = fun _ => 0 := if_pos rfl
      have e2 : zR (znew w (cj + 1) 0) (zN w) = fun _ => none := if_pos rfl
      rw [e1, e2]
      generalize fkd (40 * cj + k) = kd
      match kd with
      | 0 => rfl
      | 1 => rfl
      | _ + 2 => rfl
    · have h1 : va_up (zT w) (zN w) (ci + 1) (zN w) = 100 + t := h1
      unfold va_up at h1
      rw [if_pos rfl] at h1
      have := hi.1
      omega
  exact kk p e s m below meth c H1 locs ls X hr hlk hn hK hB1 (hS_grow hS z1 o1) hl
theorem y_callI {y : MethodName} {Dy : MD} {r idx n mc1 ms1 : Nat} (As rest : List PV) (st : List PV) (hM : JM kC (bC G (aL G)) (aL G) l y Dy (pR (some r) :: As) u none u1 mc1 ms1) (hq : jwI D.1 Dy idx y) (hdv : jdV y Dy.1 n) (hn : As.length = n) (hrm : jrm D Dy)
    (hst : st = As.reverse ++ pR (some r) :: rest) (h8 : (rest.map jcat).sum ≤ 8) (hd : decode D.2.1 pc = .ok (.invokespecial idx, 3)) (hcs : ce + mc1 ≤ mc ∧ sl + ms1 ≤ ms) (k : JW (kX G b L xs) (bC G (aL G)) (aL G) l D a Q mc ms u1 (ce + mc1) (sl + ms1) (pc + 3) lv rest) : JW (kX G b L xs) (bC G (aL G)) (aL G) l D a Q mc ms u ce sl pc lv st := by
  intro p e s m below meth c H locs ls X hr hlk hn9 hK hB hS hl
  subst hst
  obtain ⟨q1, q2, q3, q4, q5, q6⟩ := hq
  have hM : Met l y (ws_ y Dy.2.1 Dy.2.2.1 none) (jroom Dy mc1 ms1) (va_Pc ((pR (some r) :: As).map mv) (fun U => kC U ∧ bC G (aL G) u U U.heap)) (kQ none u1 (bC G (aL G)) (aL G)) mc1 ms1 (aL G) := by rw [← q5]; exact hM
  refine jw_call (o1 := none) (w1 := u1) (B := bC G (aL G)) (mc := mc1) (ms := ms1) (rest := rest.map mv) (a := ((pR (some r) :: As).map mv).toArray) (va_runI (As := As.map mv) (rest := rest.map mv) (b := r) X hM (cwI n X.2.2.2.2 (lw_meth q4) rfl rfl rfl (X.2.2.2.2 _ q3) (X.2.2.2.2 _ q1) (X.2.2.2.2 _ q2) q6 hdv.2 hrm) ⟨jblind kC_v (bC_mv G (aL G)) (pR (some r) :: As), fun U hU hW => ⟨rfl, kC_v.1 s U hW hK.1, by rw [hU]; exact bC_mv G (aL G) u s U H hW.alike hB⟩⟩ rfl (by rw [List.length_map]; exact hn) hl.1 (by simp [mv, va_rf]) (lv_room (by rw [jcat_sum]; exact h8)) hd hcs) hS ?_
  intro t H1 locs1 ht9 hvm hB1 hS1
  exact k p e s m below meth c H1 locs1 ls X hr hlk hn9 hK (bC_mv G (aL G) u1 t s H1 hvm.symm hB1) hS1 hl
end
set_option maxRecDepth 100000 in
theorem ty5_k : ∀ k, k < 116 → (tyX5 k = .int ∨ tyX5 k = .boolean ∨ tyX5 k = .long ∨ tyX5 k = .array .int ∨ tyX5 k = .array .byte ∨ tyX5 k = .array .boolean ∨ tyX5 k = .array .long) := by decide +kernel
theorem iV_0 {G' : MG} {k : Nat} (hk : k < 116) : defaultValue (tyX5 k) = iV G' (z0, 0, 0) k := by
  unfold iV mV
  rcases ty5_k k hk with h | h | h | h | h | h | h <;> rw [h]
  · rw [if_neg (fun q => q.1 rfl)]; rfl
  · rw [if_neg (fun q => q.1 rfl)]; rfl
  · rw [if_neg (fun q => q.1 rfl)]; rfl
  · rw [if_pos ⟨by decide, Nat.zero_le _⟩]; rfl
  · rw [if_pos ⟨by decide, Nat.zero_le _⟩]; rfl
  · rw [if_pos ⟨by decide, Nat.zero_le _⟩]; rfl
  · rw [if_pos ⟨by decide, Nat.zero_le _⟩]; rfl
section
variable {G : CG} {b L : Nat} {xs : Nat → Int32} {l : Launch} {nm : String} {a : List PV} {Q : List Frame → State → State → Prop} {u : Sg} {ce sl : Nat} {lv : List (Nat × PV)}
theorem l_dT : jdV yX5_init RX5 0 := ⟨rfl, by decide +kernel, by decide +kernel, by decide +kernel⟩
theorem l_twin (hcs : ce + 88 ≤ 601024 ∧ sl + 299714 ≤ 7293034) (kk : ∀ (G' : MG) (n : Nat), G'.1 = zN u → zN u < n → JW (kX G b L xs) (bX G G') (aL G) l (D_law nm) a Q 601024 7293034 (setN u n, mE) (ce + 1 + 87) (sl + 116 + 299598) 15 lv [pR (some G'.1)]) : JW (kX G b L xs) (bC G (aL G)) (aL G) l (D_law nm) a Q 601024 7293034 u ce sl 8 lv [] := by
  intro p e s m below meth c H locs ls X hr hlk hn9 hK hB hS hl
  obtain ⟨cT, iT, hKn⟩ := u_known (C := RX5) (T := TX5) (N := 116) (n := 116) X.2.2.2.2 in_X5 (X.2.2.2.2 _ q1789)
  have hN := hB.2.2.2.1.1
  obtain ⟨aK, aV, f, hbs, hvk⟩ := hK.2.2.2.2
  refine W.newcK X.1 X.2.1 X.2.2.2.1 (X.2.2.2.2 _ q1788) (X.2.2.2.2 _ q1789) (X.2.2.2.2 _ q140) rfl dL_law_8 (show ce + 1 ≤ 601024 by omega) (show sl + 116 ≤ 7293034 by omega) hKn.2.1 (h := zN u) hN.symm fun H1 kC9 hkC e1 z1 o1 => ?_
  have hob := u_born tyX5 X.2.2.2.2 in_X5 hKn hkC e1 tyX5_ok
  refine lv_dup X.1 X.2.1 dL_law_11 rfl ?_
  let G' : MG := (zN u, fun k => zN u + 1 + rk k, cT, iT, G.2.2.1)
  have hG : GI G' := fun k hk => rfl
  have hAr : ∀ t, 1 ≤ t → t ≤ 4 → ArrOfT s (G'.2.2.2.2 t) (mty t) ∧ va_RA s (G'.2.2.2.2 t) (mty t) := by
    intro t h1 h2
    rcases (show t = 1 ∨ t = 2 ∨ t = 3 ∨ t = 4 by omega) with rfl | rfl | rfl | rfl
    · exact hB.1.2 0 (G.2.2.1 1, .int) rfl
    · exact hB.1.2 1 (G.2.2.1 2, .byte) rfl
    · exact hB.1.2 2 (G.2.2.1 3, .boolean) rfl
    · exact hB.1.2 3 (G.2.2.1 4, .long) rfl
  have hge : ∀ q, aM G' q → zN u ≤ q := by
    intro q hq
    rcases hq with h | ⟨k, hk, h⟩
    · exact Nat.le_of_eq h.symm
    · rw [h]; show zN u ≤ zN u + 1 + rk k; omega
  have hfi : G.2.2.2.1 ≤ zN u := hB.2.2.2.1.2.2.2.2.2
  have hsub : ∀ q, aM G' q → aL G q := fun q hq => Nat.le_trans hfi (hge q hq)
  have hS1 : va_S (aL G) s.heap H1 locs := hS_grow hS (by rw [z1, hN]) (fun q hq => o1 q (by rw [hN]; exact hq))
  have hbs1 : bS (aM G') aK aV f () s H1 := bS_narrow (bS_kept hbs hS1.2.1) hsub
  have hI : bI G' (z0, 0, 0) s H1 := ⟨⟨hKn, fun t h1 h2 => (hAr t h1 h2).1⟩, hob.to (fun k hk => iV_0 hk), fun k _ h => absurd h (Nat.not_lt_zero _), z1⟩
  have hM := c5_init (aK := aK) (aV := aV) (f := f) (l := l) hG
  refine jw_callR (o1 := none) (w1 := mE) (B := bM G') (E := fun _ _ => True) (mc := 87) (ms := 299598) (rest := [.ref (zN u)]) (a := ([pR (some (zN u))].map mv).toArray) (va_runI (As := []) (rest := [.ref (zN u)]) (b := zN u) X hM (cwI 0 X.2.2.2.2 (lw_meth q1792) rfl rfl rfl (X.2.2.2.2 _ q140) (X.2.2.2.2 _ q1790) (X.2.2.2.2 _ q1791) rfl l_dT.2 ⟨(Nat.le_of_ble_eq_true rfl), (Nat.le_of_ble_eq_true rfl)⟩) ⟨fun a9 U g mk q => ⟨q.1, ⟨bS_mv _ _ _ _ () U (U.calling g mk a9) _ (Vm.Alike.refl U.vm) q.2.1.1, vk_R.same (u := U) rfl q.2.1.2.1, fun t h1 h2 => va_RA.moved (u := U) (Vm.Alike.refl U.vm) (q.2.1.2.2 t h1 h2)⟩, bI_mv G' _ U (U.calling g mk a9) _ (Vm.Alike.refl U.vm) q.2.2⟩, fun U hU hW => ⟨rfl, ⟨by rw [hU]; exact bS_mv _ _ _ _ () s U H1 hW.alike hbs1, vk_R.warm hW hvk, fun t h1 h2 => va_RA.moved hW.alike (hAr t h1 h2).2⟩, by rw [hU]; exact bI_mv G' _ s U H1 hW.alike hI⟩⟩ rfl rfl hl.1 (by simp) (lv_room (Nat.le_of_ble_eq_true rfl)) dL_law_12 ⟨show ce + 1 + 87 ≤ 601024 by omega, show sl + 116 + 299598 ≤ 7293034 by omega⟩) (fun _ _ _ h => ⟨h, trivial⟩) hS1 hsub ?_
  intro t H2 locs1 ht9 hvm hB2 hF _ hS2
  have hB2 := bM_mv G' mE t s H2 hvm.symm hB2
  have hz2 : H1.size ≤ H2.size := hF.1
  have hlt : ∀ q, aM G' q → q < H2.size := by
    intro q hq
    rcases hq with h | ⟨k, hk, h⟩
    · obtain ⟨cell, g1, -⟩ := hB2.2.1
      rw [h]; exact (Array.getElem?_eq_some_iff.mp g1).1
    · rw [h]; exact (Array.getElem?_eq_some_iff.mp (hB2.2.2.1 k hk)).1
  have hoth : bC G (aL G) (setN u H2.size) s H2 := bC_other hB (by rw [← hN]; omega) (fun q hq _ => by
    rw [hF.2.1 q (by omega) (fun hm => by have := hge q hm; omega), o1 q (by omega)])
  have h := kk G' H2.size rfl (by omega) p e s m below meth c H2 locs1 ls X hr hlk hn9 hK ⟨hoth, hB2, fun q hq => ⟨?_, hsub q hq, hlt q hq⟩⟩ hS2 hl
  · exact h
  · show zT u q = 0
    by_cases h0 : zT u q = 0
    · exact h0
    · have := hB.2.2.2.1.2.2.2.2.1 q h0
      have := hge q hq
      omega
theorem l_wI : jwI "CoverHouseLaw" D0_init 9 yX0_init := ⟨q173, q174, q128, q175, rfl, rfl⟩
/-- from the law's entry to the loop's head -/
theorem l_start {u1 : Sg} {c0 n0 : Nat} (hf : f0_init G (some (zN u)) (znew u 1 0) = some (u1, c0, n0)) (hc : c0 ≤ 60) (hn : n0 ≤ 40000) (kk : ∀ (G' : MG) (n ce sl : Nat), zN u1 < n → ce ≤ 1000 → sl ≤ 1000000 → LJ G G' b L xs l nm (setN u1 n, mE) (zN u) ce sl 18 0 []) : JW (kX G b L xs) (bC G (aL G)) (aL G) l (D_law nm) [pR (some b)] (fun below s => lw_Z below #[.ref b] s) 601024 7293034 u 0 0 0 [(0, pR (some b))] [] := by
  refine y_new (q := (zN u, znew u 1 0)) (c1 := 1) (n1 := 32) rfl zcl_0 zmk_0 q171 dL_law_0 ⟨by omega, by omega⟩ ?_
  refine j_dup dL_law_3 rfl ?_
  refine y_callI [] [pR (some (zN u))] _ (t0_init (some (zN u)) _ hf) l_wI dv0_init rfl ⟨(Nat.le_of_ble_eq_true rfl), (Nat.le_of_ble_eq_true rfl)⟩ rfl (Nat.le_of_ble_eq_true rfl) dL_law_4 ⟨by omega, by omega⟩ ?_
  refine j_astore_n dL_law_7 [(1, pR (some (zN u))), (0, pR (some b))] (Nat.le_of_ble_eq_true rfl) rfl ?_
  refine l_twin ⟨by omega, by omega⟩ (fun G' n h1 h2 => ?_)
  refine j_astore_n dL_law_15 [(2, pR (some G'.1)), (1, pR (some (zN u))), (0, pR (some b))] (Nat.le_of_ble_eq_true rfl) rfl ?_
  refine j_iconst dL_law_16 ?_
  refine j_istore_n dL_law_17 (lvX b (zN u) G' 0) (Nat.le_of_ble_eq_true rfl) rfl ?_
  exact kk G' n _ _ h2 (by omega) (by omega)
end
