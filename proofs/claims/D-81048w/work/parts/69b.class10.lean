/-! a Fault is made: RuntimeException.<init>()V on an object of class 8; the shapes of what a throwing method answers -/
def omI : Nat ⊕ Int → Nat ⊕ Option PV
  | .inl q => .inl q
  | .inr v => .inr (some (pI v))
def omL : Nat ⊕ Int → Nat ⊕ Option PV
  | .inl q => .inl q
  | .inr v => .inr (some (pL v))
def omR : Nat ⊕ Option Nat → Nat ⊕ Option PV
  | .inl q => .inl q
  | .inr v => .inr (some (pR v))
def omV : Nat ⊕ Unit → Nat ⊕ Option PV
  | .inl q => .inl q
  | .inr _ => .inr none
theorem telL {α β : Type} {e : Nat} {f : Nat → β} {g : α → β} {r : β} (h : tel (.inl e) f g = r) : f e = r := h
theorem telR {α β : Type} {e : α} {f : Nat → β} {g : α → β} {r : β} (h : tel (.inr e) f g = r) : g e = r := h
theorem telLK {α β γ : Type} {e : Nat} {f : Nat → Option (β × Nat × Nat)} {g : α → Option (β × Nat × Nat)} {k : β → Option (γ × Nat × Nat)} {r : Option (γ × Nat × Nat)} (h : bdU (tel (.inl e) f g) k = r) : bdU (f e) k = r := h
theorem telRK {α β γ : Type} {e : α} {f : Nat → Option (β × Nat × Nat)} {g : α → Option (β × Nat × Nat)} {k : β → Option (γ × Nat × Nat)} {r : Option (γ × Nat × Nat)} (h : bdU (tel (.inr e) f g) k = r) : bdU (g e) k = r := h
theorem xth_s {α : Type} {e : Nat} {u : Sg} {r : (Nat ⊕ α) × Sg} {c n : Nat} (h : xth e u = some (r, c, n)) : zT u e = 9 ∧ r = (.inl e, u) := by
  unfold xth at h
  by_cases h9 : zT u e = 9
  · rw [if_pos h9] at h; cases h; exact ⟨h9, rfl⟩
  · rw [if_neg h9] at h; cases h
theorem fltI_s {G : CG} {u u1 : Sg} {b : Nat} (h : fltI G u b = some u1) : zT u b = 9 ∧ G.2.2.2.1 ≤ b ∧ zR u b 324 = none ∧ zsR (zsR (zsR u b 320 (some b)) b 321 (G.2.2.2.2 9)) b 322 (G.2.2.2.2 10) = u1 := by
  unfold fltI at h
  by_cases h9 : zT u b = 9 ∧ G.2.2.2.1 ≤ b ∧ zR u b 324 = none
  · rw [if_pos h9] at h; cases h; exact ⟨h9.1, h9.2.1, h9.2.2, rfl⟩
  · rw [if_neg h9] at h; cases h
theorem fw_thr {s : State} {H : Heap} {A : Nat → Prop} {args : Array Value} (hts : ∀ w ∈ lw_all, w.before args s = true) (h1 : vx_L Bundle.tN "UNASSIGNED_STACK" Bundle.steD A s H) (h2 : vx_L Bundle.tN "SUPPRESSED_SENTINEL" Bundle.listD A s H) : ∀ w ∈ Bundle.throwableAtoms, w.before args { s with heap := H } = true := by
  intro w hw
  simp only [Bundle.throwableAtoms, List.mem_cons, List.not_mem_nil, or_false] at hw
  rcases hw with rfl | rfl | rfl | rfl | rfl | rfl | rfl | rfl | rfl | rfl | rfl | rfl | rfl | rfl | rfl | rfl | rfl | rfl | rfl | rfl | rfl | rfl | rfl | rfl
  · exact va_tabs (u := s) rfl (rfl : s.vm = ({ s with heap := H } : State).vm) (hts _ q147)
  · exact va_tabs (u := s) rfl (rfl : s.vm = ({ s with heap := H } : State).vm) (hts _ q689)
  · exact va_tabs (u := s) rfl (rfl : s.vm = ({ s with heap := H } : State).vm) (hts _ q698)
  · exact va_tabs (u := s) rfl (rfl : s.vm = ({ s with heap := H } : State).vm) (hts _ q700)
  · exact va_tabs (u := s) rfl (rfl : s.vm = ({ s with heap := H } : State).vm) (hts _ q703)
  · exact va_tabs (u := s) rfl (rfl : s.vm = ({ s with heap := H } : State).vm) (hts _ q705)
  · exact va_tabs (u := s) rfl (rfl : s.vm = ({ s with heap := H } : State).vm) (hts _ q690)
  · exact va_tabs (u := s) rfl (rfl : s.vm = ({ s with heap := H } : State).vm) (hts _ q691)
  · exact va_tabs (u := s) rfl (rfl : s.vm = ({ s with heap := H } : State).vm) (hts _ q177)
  · exact va_tabs (u := s) rfl (rfl : s.vm = ({ s with heap := H } : State).vm) (hts _ q178)
  · exact va_tabs (u := s) rfl (rfl : s.vm = ({ s with heap := H } : State).vm) (hts _ q692)
  · exact va_tabs (u := s) rfl (rfl : s.vm = ({ s with heap := H } : State).vm) (hts _ q697)
  · exact va_tabs (u := s) rfl (rfl : s.vm = ({ s with heap := H } : State).vm) (hts _ q701)
  · exact va_tabs (u := s) rfl (rfl : s.vm = ({ s with heap := H } : State).vm) (hts _ q721)
  · exact va_tabs (u := s) rfl (rfl : s.vm = ({ s with heap := H } : State).vm) (hts _ q679)
  · exact va_tabs (u := s) rfl (rfl : s.vm = ({ s with heap := H } : State).vm) (hts _ q722)
  · exact va_tabs (u := s) rfl (rfl : s.vm = ({ s with heap := H } : State).vm) (hts _ q681)
  · exact va_tabs (u := s) rfl (rfl : s.vm = ({ s with heap := H } : State).vm) (hts _ q723)
  · exact va_tabs (u := s) rfl (rfl : s.vm = ({ s with heap := H } : State).vm) (hts _ q683)
  · exact va_tabs (u := s) rfl (rfl : s.vm = ({ s with heap := H } : State).vm) (hts _ q693)
  · exact vx_L.word (A := A) h1
  · exact va_tabs (u := s) rfl (rfl : s.vm = ({ s with heap := H } : State).vm) (hts _ q695)
  · exact vx_L.word (A := A) h2
  · exact va_tabs (u := s) rfl (rfl : s.vm = ({ s with heap := H } : State).vm) (hts _ q685)
theorem thr_at {s : State} {H : Heap} {A : Nat → Prop} {args : Array Value} {pl : Platform} (howns : pl.frameOwnsMonitors = true) (hfin : pl.finalization = false) (hpl : pl.magicAccessors = ({} : Platform).magicAccessors) (hts : ∀ w ∈ lw_all, w.before args s = true) (h1 : vx_L Bundle.tN "UNASSIGNED_STACK" Bundle.steD A s H) (h2 : vx_L Bundle.tN "SUPPRESSED_SENTINEL" Bundle.listD A s H) :
    ∃ (T : ThrowableC) (Z : Init0T), T.Links pl s ∧ Z.Laid T.toThrowableT ∧ Bundle.Ties T Z { s with heap := H } := by
  obtain ⟨T, Z, L, LZ, Y⟩ := ThrowableC.of_atoms (args := args) howns hfin hpl (fw_thr hts h1 h2)
  refine ⟨T, Z, ?_, LZ, Y⟩
  cases L
  constructor <;> assumption
theorem fw_chain {s : State} {args : Array Value} (hts : ∀ w ∈ lw_all, w.before args s = true) (hK : kC s) : ∀ w ∈ Bundle.chain0Atoms "java/lang/RuntimeException" ["java/lang/Exception"], w.before args s = true := by
  intro w hw
  simp only [Bundle.chain0Atoms, Bundle.passAtoms, List.mem_append, List.mem_cons, List.not_mem_nil, or_false] at hw
  rcases hw with (rfl | rfl | rfl | rfl | rfl) | (rfl | rfl | rfl | rfl | rfl)
  · exact hts _ q710
  · exact hts _ q711
  · exact hts _ q712
  · exact hts _ q713
  · exact va_Nw.use rfl (hK.1 _ q672 rfl)
  · exact hts _ q713
  · exact hts _ q714
  · exact hts _ q715
  · exact hts _ q690
  · exact va_Nw.use rfl (hK.1 _ q674 rfl)
theorem takes_of {s : State} {cell : Cell} {f : Field} {v v0 : Value} {c i : Nat} {k : Class} (hc : cell.cls = c) (hv : cell.vm = .none) (hs : f.slot = i) (h0 : cell.slots[i]? = some v0) (hk : s.vm.classes[c]? = some k) (hord : k.kind = .ordinary) (hty : k.instanceTypes[f.slot]? = some f.type) (hf : fits f.type v = true) : Takes s cell f v := by
  refine ⟨?_, ?_⟩
  · rw [hs]; exact (Array.getElem?_eq_some_iff.mp h0).1
  · simp [State.fitsSlot, State.slotType?, hc, hv, hk, hord, hty, hf]
theorem zsR_Tw (u : Sg) (b g : Nat) (v : Option Nat) : zT (zsR u b g v) = zT u := rfl
theorem rfv_of (r : Option Nat) : (va_rf r).isRef = true := by cases r <;> rfl
theorem fits_rf_O (n : String) (r : Option Nat) : fits (.object n) (va_rf r) = true := by cases r <;> rfl
theorem fits_rf_A (t : FieldType) (r : Option Nat) : fits (.array t) (va_rf r) = true := by cases r <;> rfl
section FMade
variable {G : CG} {A : Nat → Prop} {l : Launch} {D : MD} {a : List PV} {Q : List Frame → State → State → Prop} {w w1 : Sg} {mc ms ce sl pc : Nat} {lv : List (Nat × PV)}
/-- the world when three fields of a Fault are written -/
theorem bC_flt {U : State} {H H1 : Heap} {b : Nat} {cell : Cell} (hB : bC G A w U H) (ht : zT w b = 9) (hb : G.2.2.2.1 ≤ b) (hz : H1.size = H.size) (oq : ∀ q : Nat, q ≠ b → H1[q]? = H[q]?) (h1 : H1[b]? = some cell) (h2 : cell.cls = G.1 8) (h3 : cell.vm = .none)
    (h4 : ∀ k, k < 8 → cell.slots[G.2.1 8 k]? = some (updV (updV (updV (updV (oV w 8 b) 0 (.ref b)) 1 (va_rf (G.2.2.2.2 9))) 2 (va_rf (G.2.2.2.2 10))) 1 (va_rf (G.2.2.2.2 9)) k)) (h5 : cell.monitor.owner = none ∧ cell.monitor.count = 0) :
    bC G A (zsR (zsR (zsR w b 320 (some b)) b 321 (G.2.2.2.2 9)) b 322 (G.2.2.2.2 10)) U H1 := by
  refine bC_write hB (by rw [ht]; omega) hb hz oq ⟨fun cj e2 e3 => ?_, fun t e2 e3 e4 => ?_⟩ rfl (fun q hq => ⟨rfl, rfl, ?_, rfl, rfl⟩) rfl
  · have e2 : zT w b = cj + 1 := e2
    have : cj = 8 := by omega
    subst this
    refine ⟨_, zcl_8.2.1, oOb.of ⟨cell, h1, h2, h3, fun k hk => ?_⟩, fun _ => ⟨fun c9 h9 => by cases Option.some.inj (h1.symm.trans h9); exact h5, hb⟩⟩
    rw [h4 k hk]
    have hk8 : k < 8 := hk
    rcases (show k = 0 ∨ k = 1 ∨ k = 2 ∨ k = 3 ∨ k = 4 ∨ k = 5 ∨ k = 6 ∨ k = 7 by omega) with rfl | rfl | rfl | rfl | rfl | rfl | rfl | rfl <;> simp [updV, oV, fkd, zsR, zR, zI, up2, va_rf]
  · have e2 : zT w b = 100 + t := e2
    omega
  · show up2 (up2 (up2 (zR w) b 320 _) b 321 _) b 322 _ q = zR w q
    rw [up2_ne hq, up2_ne hq, up2_ne hq]
set_option maxHeartbeats 2000000 in
theorem c_rteInit {b idx : Nat} {st : List PV} (hfl : l.stackTraces = false) (h : fltI G w b = some w1) (hq : Cond.methodLink D.1 idx (Bundle.init0 "java/lang/RuntimeException") ∈ lw_all) (hf : 5 ≤ D.2.2.2.2.2.1) (hlo : 100 ≤ D.2.2.2.2.2.2) (h8 : (st.map jcat).sum ≤ 8) (hd : decode D.2.1 pc = .ok (.invokespecial idx, 3))
    (k : JW kC (bC G A) A l D a Q mc ms w1 ce sl (pc + 3) lv st) : JW kC (bC G A) A l D a Q mc ms w ce sl pc lv (pR (some b) :: st) := by
  intro p e s m below meth c H locs ls X hr hlk hn9 hK hB hS hl T hT XS
  obtain ⟨ht, hb, hback, rfl⟩ := fltI_s h
  have a' : ∀ x ∈ lw_all, x.before (a.map mv).toArray s = true := X.2.2.2.2
  have htr : e.platform.stackTraces = false := (show e.platform.stackTraces = l.stackTraces by rw [XS.admits.platform]).trans hfl
  have howns : e.platform.frameOwnsMonitors = true := by rw [XS.admits.platform]
  have hfin : e.platform.finalization = false := by rw [XS.admits.platform]
  have hpl : e.platform.magicAccessors = ({} : Platform).magicAccessors := by rw [XS.admits.platform]
  obtain ⟨Th, Z, L, LZ, Y⟩ := thr_at howns hfin hpl a' ((hB.2.1 9 _ rfl).2 (by decide)) ((hB.2.1 10 _ rfl).2 (by decide))
  have y0 : s.fieldFound? Bundle.tN "cause" "Ljava/lang/Throwable;" = some (Th.cT, Th.kT, Th.i7, Th.fCause) := Y.cause
  have y1 : s.fieldFound? Bundle.tN "stackTrace" Bundle.steD = some (Th.cT, Th.kT, Th.i17, Th.fStack) := Y.stack
  have y2 : s.fieldFound? Bundle.tN "suppressedExceptions" Bundle.listD = some (Th.cT, Th.kT, Th.i24, Th.fSupp) := Y.supp
  have y3 : s.fieldFound? Bundle.tN "UNASSIGNED_STACK" Bundle.steD = some (Th.cT, Th.kT, Th.i13, Th.fUnassigned) := Y.unassigned
  have y4 : s.fieldFound? Bundle.tN "SUPPRESSED_SENTINEL" Bundle.listD = some (Th.cT, Th.kT, Th.i20, Th.fSentinel) := Y.sentinel
  have y5 : s.vm.findClass Bundle.tN = some Th.cT := Y.found
  have y6 : s.methodNamed? Bundle.tFill = some Th.fill := Y.fill
  have y7 : s.methodNamed? Bundle.tFill0 = some Th.fill0 := Y.fill0
  have y8 : s.methodNamed? Bundle.tInit0 = some (Z.m Th.toThrowableT) := Y.init0
  obtain ⟨P1, Ps, hlen, L1, hL, hP1m, hlink1, hlink⟩ := Bundle.chain0 (args := (a.map mv).toArray) hpl y8 ["java/lang/Exception"] "java/lang/RuntimeException" (by decide) (by decide) (fw_chain a' hK)
  obtain ⟨cell, q1, q2, q3, q4⟩ := bC_obj hB zcl_8 ht hb
  have hmon := bC_mon hB zcl_8.1 ht rfl cell q1
  have hap := va_apart (own := RX8) X.2.2.2.2 zcl_8.2.2.1 tyX8 zcl_8.2.2.2.1 zcl_8.2.2.2.2.1 hB.1 (ci := 8) zcl_8.2.1
  obtain ⟨hSl, hfc, kC8, hkC, hkind⟩ := hB.1.1 8 _ zcl_8.2.1
  have hA : A b := hB.2.2.2.1.2.2.1 b (by rw [ht]; omega) hb
  have hsel0 : selectMethod e.platform s.vm cell.cls Th.fill0 = .method Th.fill0 := by
    obtain ⟨c2, r2, m2, g1, g2, g3, g4, -⟩ := Cond.selects_spec (a' (.selects RX8 Bundle.tFill0 Bundle.tFill0) q676)
    cases Option.some.inj (g1.symm.trans hfc)
    cases Option.some.inj (g2.symm.trans (State.methodFound?_of_named y7 (by decide)))
    cases Option.some.inj (g3.symm.trans y7)
    rw [Launch.admits_selectMethod XS.admits, q2]; exact g4
  have hselF : selectMethod e.platform s.vm cell.cls Th.fill = .method Th.fill := by
    obtain ⟨c2, r2, m2, g1, g2, g3, g4, -⟩ := Cond.selects_spec (a' (.selects RX8 Bundle.tFill Bundle.tFill) q677)
    cases Option.some.inj (g1.symm.trans hfc)
    cases Option.some.inj (g2.symm.trans (State.methodFound?_of_named y6 (by decide)))
    cases Option.some.inj (g3.symm.trans y6)
    rw [Launch.admits_selectMethod XS.admits, q2]; exact g4
  obtain ⟨ci198, i198, fB, hk198, hg198, ha198, hsB, -, hnB, htB, hffB⟩ := Cond.ownField (t := .object "java/lang/Object") y5 L.cls (by decide +kernel) (a' (.fieldLink Bundle.tN 198 Bundle.tN "backtrace" "Ljava/lang/Object;") q688) (a' (.lays Bundle.tN Bundle.tN "backtrace" "Ljava/lang/Object;") q687) e.platform hpl
  have sl0 : Th.fCause.slot = G.2.1 8 0 := by
    obtain ⟨cf, kf, fi, f, hi, hsl⟩ := hSl 0 (by decide)
    cases Option.some.inj (hi.symm.trans y0)
    exact hsl
  have sl1 : Th.fStack.slot = G.2.1 8 1 := by
    obtain ⟨cf, kf, fi, f, hi, hsl⟩ := hSl 1 (by decide)
    cases Option.some.inj (hi.symm.trans y1)
    exact hsl
  have sl2 : Th.fSupp.slot = G.2.1 8 2 := by
    obtain ⟨cf, kf, fi, f, hi, hsl⟩ := hSl 2 (by decide)
    cases Option.some.inj (hi.symm.trans y2)
    exact hsl
  have sl4 : fB.slot = G.2.1 8 4 := by
    obtain ⟨cf, kf, fi, f, hi, hsl⟩ := hSl 4 (by decide)
    cases Option.some.inj (hi.symm.trans hffB)
    exact hsl
  obtain ⟨cf, kf, fi, f, a0, cS, i1, i2, i3, i4, i5, i6, i7, i8⟩ := (hB.2.1 9 _ rfl).1
  cases Option.some.inj (i1.symm.trans y3)
  cases Option.some.inj (i4.symm.trans L.statics)
  obtain ⟨cf, kf, fi, f, a0, cS2, j1, j2, j3, j4, j5, j6, j7, j8⟩ := (hB.2.1 10 _ rfl).1
  cases Option.some.inj (j1.symm.trans y4)
  cases Option.some.inj (j4.symm.trans L.statics)
  cases Option.some.inj (j5.symm.trans i5)
  have hneS : Th.aS ≠ b := fun e9 => i8 (e9 ▸ hA)
  have hknownS : cS.vm ≠ .unknown := fun hu => by rw [hu] at i6; cases i6
  obtain ⟨tyC, -⟩ := Cond.laysAt hfc hkC y0 (a' (.lays RX8 Bundle.tN "cause" "Ljava/lang/Throwable;") q678)
  obtain ⟨tyS, -⟩ := Cond.laysAt hfc hkC y1 (a' (.lays RX8 Bundle.tN "stackTrace" Bundle.steD) q680)
  obtain ⟨tyP, -⟩ := Cond.laysAt hfc hkC y2 (a' (.lays RX8 Bundle.tN "suppressedExceptions" Bundle.listD) q682)
  have n04 : G.2.1 8 0 ≠ G.2.1 8 4 := hap 0 4 (by decide) (by decide) (by decide)
  have n14 : G.2.1 8 1 ≠ G.2.1 8 4 := hap 1 4 (by decide) (by decide) (by decide)
  have n24 : G.2.1 8 2 ≠ G.2.1 8 4 := hap 2 4 (by decide) (by decide) (by decide)
  have hskip : SkipFacts Th e.platform s (fun u => u) ⟨va_rf (G.2.2.2.2 9), rfv_of _⟩ ((preparedCellV Th.toThrowableT cell b ⟨va_rf (G.2.2.2.2 9), rfv_of _⟩ ⟨va_rf (G.2.2.2.2 10), rfv_of _⟩).withEntry T.cur) :=
    ⟨{ ci198 := ci198, i198 := i198, fBack := fB }, ⟨hk198, hg198, ha198, hsB⟩, by
      have hz := q4 4 (by decide)
      have hz2 : oV w 8 b 4 = .null := by show va_rf (zR w b 324) = .null; rw [hback]; rfl
      rw [hz2] at hz
      show ((preparedCellV Th.toThrowableT cell b ⟨va_rf (G.2.2.2.2 9), rfv_of _⟩ ⟨va_rf (G.2.2.2.2 10), rfv_of _⟩).withEntry T.cur).slots[fB.slot]? = some .null
      rw [sl4]
      simpa [preparedCellV, Cell.setSlot, Cell.withEntry, Array.getElem?_setIfInBounds, sl0, sl1, sl2, n04, n14, n24] using hz, fun _ _ => rfl⟩
  obtain ⟨tm, methC, cdC, kC9, vm₁, hnC, -, -, -, -, -, -, -, hW₁, st1⟩ := Steps.initCold (tb := p.tables) (e := e) (below := below) (s := s) (U := T) XS.here X.1 XS.warmed hpl X.2.2.2.1 (t := Bundle.init0 "java/lang/RuntimeException") rfl rfl (by decide)
    (a' _ hq) (a' _ q710) (bytes := Bundle.five) (maxL := 1) (a' _ q711) (f := F0 m pc ls (mv (pR (some b)) :: st.map mv)) rfl (a := b) (rest := st.map mv) rfl (by rw [X.2.1]; exact hd)
  cases Option.some.inj (hnC.symm.trans hP1m)
  have X₁ := XS.noted hW₁
  have h9 : 2 * (F0 m pc ls (mv (pR (some b)) :: st.map mv)).monitorRoom + ((st.map mv).map fun v => v.category).sum ≤ 8 := lv_room (by rw [jcat_sum]; exact h8)
  have hTb : T.heap[b]? = some cell := by rw [hT]; exact q1
  have hTS : T.heap[Th.aS]? = some cS := by rw [hT]; exact i5
  obtain ⟨vm₂, X₂, st2⟩ := X₁.ctorPlainOffV X.1 (g := F0 m pc ls (st.map mv)) rfl (by rw [X.2.2.1]; exact hl.1) Th L Z LZ (P1 :: Ps)
    (fun P hP => by rcases List.mem_cons.mp hP with rfl | hP; exact L1; exact hL P hP) ⟨hlink1, hlink⟩ (u0 := ⟨va_rf (G.2.2.2.2 9), rfv_of _⟩) (sen := ⟨va_rf (G.2.2.2.2 10), rfv_of _⟩) (self := b) (cell := cell) (cellS := cS)
    hTb (fun _ => by rw [q3]; intro h; cases h) (by rw [q3]; intro h; cases h) hmon.1 hmon.2 hsel0 hselF hTS hneS hknownS i7 j7
    (takes_of q2 q3 sl0 (q4 0 (by decide)) hkC hkind tyC (by rw [Y.causeType]; rfl)) (takes_of q2 q3 sl1 (q4 1 (by decide)) hkC hkind tyS (by rw [Y.stackType]; exact fits_rf_A _ _)) (takes_of q2 q3 sl2 (q4 2 (by decide)) hkC hkind tyP (by rw [Y.suppType]; exact fits_rf_O _ _)) Y.objLocals hskip htr [] (by rw [X.2.1]; exact hd)
    (by simp only [List.length_cons, hlen, List.length_nil]; exact hf) (by simp only [List.length_cons, hlen, List.length_nil]; exact Nat.le_trans (Nat.add_le_add_right h9 _) (Nat.le_trans (by decide) hlo))
  have hlt : b < H.size := (Array.getElem?_eq_some_iff.mp q1).1
  have c0 := t_set q4 hap (k := 0) (by decide) (Value.ref b)
  have c1 := t_set c0 hap (k := 1) (by decide) (va_rf (G.2.2.2.2 9))
  have c2 := t_set c1 hap (k := 2) (by decide) (va_rf (G.2.2.2.2 10))
  have c3 := t_set c2 hap (k := 1) (by decide) (va_rf (G.2.2.2.2 9))
  rw [show (preparedCellV Th.toThrowableT cell b ⟨va_rf (G.2.2.2.2 9), rfv_of _⟩ ⟨va_rf (G.2.2.2.2 10), rfv_of _⟩).setSlot Th.fStack.slot (va_rf (G.2.2.2.2 9)) = (((cell.setSlot (G.2.1 8 0) (.ref b)).setSlot (G.2.1 8 1) (va_rf (G.2.2.2.2 9))).setSlot (G.2.1 8 2) (va_rf (G.2.2.2.2 10))).setSlot (G.2.1 8 1) (va_rf (G.2.2.2.2 9)) by rw [← sl0, ← sl1, ← sl2]] at X₂ st2
  generalize hcell9 : (((cell.setSlot (G.2.1 8 0) (.ref b)).setSlot (G.2.1 8 1) (va_rf (G.2.2.2.2 9))).setSlot (G.2.1 8 2) (va_rf (G.2.2.2.2 10))).setSlot (G.2.1 8 1) (va_rf (G.2.2.2.2 9)) = cell9 at X₂ st2 c3
  have hH9 : (((T.setVm vm₁).setVm vm₂).setCell b cell9).heap = H.setIfInBounds b cell9 := by show T.heap.setIfInBounds b cell9 = _; rw [hT]
  have e1 : (H.setIfInBounds b cell9)[b]? = some cell9 := by rw [Array.getElem?_setIfInBounds]; simp [hlt]
  have e2 : (H.setIfInBounds b cell9).size = H.size := Array.size_setIfInBounds ..
  have e3 : ∀ q : Nat, q ≠ b → (H.setIfInBounds b cell9)[q]? = H[q]? := fun q hq9 => by rw [Array.getElem?_setIfInBounds, if_neg (fun z => hq9 z.symm)]
  have hB1 := bC_flt hB ht hb e2 e3 e1 (by rw [← hcell9]; exact q2) (by rw [← hcell9]; exact q3) c3 (by rw [← hcell9]; exact hmon)
  obtain ⟨t, a1, b1⟩ := k p e s m below meth c (H.setIfInBounds b cell9) _ ls X hr hlk hn9 hK hB1 ⟨by rw [e2]; exact hS.1, fun z z1 z2 => by rw [e3 z (fun z9 => z2 (z9 ▸ hA))]; exact hS.2.1 z z1 z2, fun z hz => by
    rcases List.mem_append.mp hz with hz | hz
    · exact hS.2.2 z hz
    · simp only [List.mem_cons, List.not_mem_nil, or_false] at hz
      rcases hz with rfl | rfl | rfl | rfl <;> exact hA⟩ hl _ hH9 X₂
  refine ⟨t, st1 _ (fun acts => ?_), b1⟩
  rw [doInvoke_state]
  exact st2 _ a1
end FMade
