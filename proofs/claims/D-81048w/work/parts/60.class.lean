/-! THE WORLD OF CoverHouse: a pure heap. Tags: 0 nothing, ci + 1 an object of class ci, 101 .. 106 arrays (int byte boolean long Object Long). Field k of class ci has the number 40 * ci + k -/
def clL : List vw_C := [(RX0, TX0, 32), (RX1, TX1, 2), (RX2, TX2, 7), (RX3, TX3, 10), (RX4, TX4, 3), (RJ2, TJ2, 3), (RX6, TX6, 14), (RX7, TX7, 11), (RX8, TX8, 8), (RX9, TX9, 6), (RX1, TX1, 2), (RX11, TX11, 1), (RX12, TX12, 1), (RX13, TX13, 3), (RX14, TX14, 3), (RX15, TX15, 2), (RX16, TX16, 3), (RX17, TX17, 3), (RX18, TX18, 2), (RX19, TX19, 3), (RX20, TX20, 5), (RX21, TX21, 7), (RX1, TX1, 2), (RX1, TX1, 2), (RX1, TX1, 2), (RX1, TX1, 2), (RX1, TX1, 2), (RX1, TX1, 2), (RJ15, TJ15, 1)]
def fkd : Nat → Nat := fun g => match g with
  | 0 => 2
  | 1 => 2
  | 4 => 2
  | 5 => 2
  | 6 => 2
  | 7 => 2
  | 8 => 2
  | 9 => 2
  | 10 => 2
  | 11 => 2
  | 13 => 2
  | 14 => 2
  | 15 => 2
  | 16 => 2
  | 17 => 2
  | 18 => 2
  | 19 => 2
  | 20 => 2
  | 21 => 2
  | 24 => 2
  | 25 => 2
  | 27 => 2
  | 28 => 2
  | 29 => 2
  | 30 => 2
  | 40 => 2
  | 41 => 2
  | 80 => 2
  | 81 => 2
  | 83 => 2
  | 84 => 2
  | 85 => 2
  | 86 => 2
  | 120 => 2
  | 122 => 1
  | 123 => 2
  | 124 => 2
  | 126 => 2
  | 129 => 2
  | 160 => 2
  | 201 => 2
  | 240 => 2
  | 241 => 2
  | 242 => 2
  | 243 => 2
  | 244 => 2
  | 247 => 2
  | 250 => 2
  | 252 => 2
  | 253 => 2
  | 283 => 1
  | 286 => 2
  | 290 => 2
  | 320 => 2
  | 321 => 2
  | 322 => 2
  | 323 => 2
  | 324 => 2
  | 360 => 1
  | 362 => 2
  | 440 => 2
  | 561 => 2
  | 601 => 2
  | 641 => 2
  | 682 => 2
  | 720 => 2
  | 721 => 2
  | 760 => 2
  | 761 => 2
  | 800 => 2
  | 801 => 2
  | 802 => 2
  | 803 => 2
  | 841 => 2
  | 844 => 2
  | 1120 => 1
  | _ => 0
def stL : List (String × String × String) := [("CoverHouse$Sign", "SAME", "LCoverHouse$Sign;"), ("CoverHouse$Sign", "BELOW", "LCoverHouse$Sign;"), ("CoverHouse$Sign", "ABOVE", "LCoverHouse$Sign;"), ("CoverHouse$Sign", "MOST", "LCoverHouse$Sign;"), ("CoverHouse$Sign", "LEAST", "LCoverHouse$Sign;"), ("CoverHouse$Sign", "OTHER", "LCoverHouse$Sign;"), ("java/util/ArrayList", "DEFAULTCAPACITY_EMPTY_ELEMENTDATA", "[Ljava/lang/Object;"), ("java/util/ArrayList", "EMPTY_ELEMENTDATA", "[Ljava/lang/Object;"), ("java/lang/Long$LongCache", "cache", "[Ljava/lang/Long;"), ("java/lang/Throwable", "UNASSIGNED_STACK", "[Ljava/lang/StackTraceElement;"), ("java/lang/Throwable", "SUPPRESSED_SENTINEL", "Ljava/util/List;")]
def tysL (G : CG) : List (ClassId × FieldType) := [(G.2.2.1 1, .int), (G.2.2.1 2, .byte), (G.2.2.1 3, .boolean), (G.2.2.1 4, .long), (G.2.2.1 5, .object "java/lang/Object")]
def oV (s : Sg) (ci a k : Nat) : Value := match fkd (40 * ci + k) with
  | 0 => .int (jI (zI s a (40 * ci + k)))
  | 1 => .long (jL (zI s a (40 * ci + k)))
  | _ => va_rf (zR s a (40 * ci + k))
def eV (s : Sg) (t a j : Nat) : Value := match t with
  | 4 => .long (jL (zA s a j))
  | 5 => va_rf (zB s a j)
  | 6 => va_rf (zB s a j)
  | _ => .int (jI (zA s a j))
def isO (ci : Nat) : Prop := ci < 29 ∧ ci ≠ 10 ∧ (ci < 22 ∨ 27 < ci)
/-- nobody holds the monitor of what lies at a -/
def mon (H : Heap) (a : Nat) : Prop := ∀ cell : Cell, H[a]? = some cell → cell.monitor.owner = none ∧ cell.monitor.count = 0
/-- an object at a (below n0, where nothing is written, less is known) -/
def oOb (n0 a : Nat) (cC : ClassId) (N : Nat) (iS : Nat → Nat) (H : Heap) (V : Nat → Value) : Prop := ∃ cell : Cell, H[a]? = some cell ∧ cell.cls = cC ∧ cell.vm ≠ .unknown ∧ cell.vm.isStatics = false ∧ (n0 ≤ a → cell.vm = .none) ∧ ∀ k, k < N → cell.slots[iS k]? = some (V k)
theorem oOb.ex {n0 a : Nat} {cC : ClassId} {N : Nat} {iS : Nat → Nat} {H : Heap} {V : Nat → Value} (h : oOb n0 a cC N iS H V) (hb : n0 ≤ a) : t_OB a cC N iS H V := by
  obtain ⟨cell, q1, q2, -, -, q5, q6⟩ := h
  exact ⟨cell, q1, q2, q5 hb, q6⟩
theorem oOb.of {n0 a : Nat} {cC : ClassId} {N : Nat} {iS : Nat → Nat} {H : Heap} {V : Nat → Value} (h : t_OB a cC N iS H V) : oOb n0 a cC N iS H V := by
  obtain ⟨cell, q1, q2, q3, q4⟩ := h
  exact ⟨cell, q1, q2, (by rw [q3]; exact (fun q => nomatch q)), (by rw [q3]; rfl), fun _ => q3, q4⟩
theorem oOb.kept {n0 a : Nat} {cC : ClassId} {N : Nat} {iS : Nat → Nat} {H H1 : Heap} {V : Nat → Value} (h : oOb n0 a cC N iS H V) (h1 : H1[a]? = H[a]?) : oOb n0 a cC N iS H1 V := by
  obtain ⟨cell, q, r⟩ := h
  exact ⟨cell, by rw [h1]; exact q, r⟩
theorem oOb.to {n0 a : Nat} {cC : ClassId} {N : Nat} {iS : Nat → Nat} {H : Heap} {V V' : Nat → Value} (h : oOb n0 a cC N iS H V) (hv : ∀ k, k < N → V k = V' k) : oOb n0 a cC N iS H V' := by
  obtain ⟨cell, q1, q2, q3, q4, q5, q6⟩ := h
  exact ⟨cell, q1, q2, q3, q4, q5, fun k hk => by rw [← hv k hk]; exact q6 k hk⟩
/-- an array at a -/
def aOb (n0 a : Nat) (cA : ClassId) (N : Nat) (V : Nat → Value) (H : Heap) : Prop := ∃ cell : Cell, H[a]? = some cell ∧ cell.cls = cA ∧ cell.vm ≠ .unknown ∧ (∀ k, cell.vm ≠ .statics k) ∧ N ≤ cell.slots.size ∧ cell.slots.size.toInt32 = Int32.ofNat N ∧ (∀ j, j < N → cell.slots[j]? = some (V j)) ∧ (n0 ≤ a → cell = arrV cA N V)
theorem aOb.ex {n0 a : Nat} {cA : ClassId} {N : Nat} {V : Nat → Value} {H : Heap} (h : aOb n0 a cA N V H) (hb : n0 ≤ a) : H[a]? = some (arrV cA N V) := by
  obtain ⟨cell, q1, -, -, -, -, -, -, q8⟩ := h
  rw [q1, q8 hb]
theorem aOb.of {n0 a : Nat} {cA : ClassId} {N : Nat} {V : Nat → Value} {H : Heap} (h : H[a]? = some (arrV cA N V)) : aOb n0 a cA N V H := ⟨_, h, rfl, (fun q => nomatch q), (fun _ q => nomatch q), Nat.le_of_eq (arrV_size _ _ _).symm, (by rw [arrV_size]), fun _ hj => arrV_read _ _ hj, fun _ => rfl⟩
theorem aOb.kept {n0 a : Nat} {cA : ClassId} {N : Nat} {V : Nat → Value} {H H1 : Heap} (h : aOb n0 a cA N V H) (h1 : H1[a]? = H[a]?) : aOb n0 a cA N V H1 := by
  obtain ⟨cell, q, r⟩ := h
  exact ⟨cell, by rw [h1]; exact q, r⟩
theorem arrOf_c {U : State} {cA : ClassId} {ty : FieldType} {cell : Cell} (h : ArrOfT U cA ty) (e : cell.cls = cA) (hv : ∀ k, cell.vm ≠ .statics k) : U.isArrayOf cell ty := ⟨hv, by rw [e]; exact (h 0 (fun _ => .null)).2⟩
theorem nst {v : VmData} (h : ∀ k, v ≠ .statics k) : v.isStatics = false := by
  cases v <;> first | rfl | exact absurd rfl (h _)
/-- what lies at a -/
def okA (G : CG) (s : Sg) (H : Heap) (a : Nat) : Prop := (∀ ci, zT s a = ci + 1 → isO ci → ∃ r : vw_C, clL[ci]? = some r ∧ oOb G.2.2.2.1 a (G.1 ci) r.2.2 (G.2.1 ci) H (oV s ci a) ∧ (ci = 8 → mon H a ∧ G.2.2.2.1 ≤ a)) ∧ ∀ t, zT s a = 100 + t → 1 ≤ t → t ≤ 6 → aOb G.2.2.2.1 a (G.2.2.1 t) (zL s a) (eV s t a) H
def zH (G : CG) (A : Nat → Prop) (s : Sg) (H : Heap) : Prop := zN s = H.size ∧ (∀ a, okA G s H a) ∧ (∀ a, zT s a ≠ 0 → G.2.2.2.1 ≤ a → A a) ∧ (∀ q, zN s ≤ q → A q) ∧ (∀ a, zT s a ≠ 0 → a < zN s) ∧ G.2.2.2.1 ≤ zN s
/-- the constants of the enum Sign -/
def sgN : Nat → String := fun k => match k with
  | 0 => "CoverHouse$Sign$1"
  | 1 => "CoverHouse$Sign$2"
  | 2 => "CoverHouse$Sign$3"
  | 3 => "CoverHouse$Sign$4"
  | 4 => "CoverHouse$Sign$5"
  | _ => "CoverHouse$Sign$6"
def zE (A : Nat → Prop) (s : Sg) (U : State) (H : Heap) : Prop := ∀ a k, zT s a = 23 + k → k < 6 → va_O (sgN k) a A U H
def zS1 (C n d : String) (v : Value) (A : Nat → Prop) (U : State) (H : Heap) (k : Nat) : Prop := va_Z C n d v A U H ∧ (9 ≤ k → vx_L C n d A U H)
theorem zS1.moved {C n d : String} {v : Value} {A : Nat → Prop} {u U : State} {H : Heap} {k : Nat} (h : zS1 C n d v A u H k) (hvm : u.vm.Alike U.vm) : zS1 C n d v A U H k := ⟨h.1.moved hvm, fun h9 => (h.2 h9).moved hvm⟩
theorem zS1.kept {C n d : String} {v : Value} {A : Nat → Prop} {U : State} {H H1 : Heap} {k : Nat} (h : zS1 C n d v A U H k) (hq : ∀ a : Nat, a < H.size → ¬ A a → H1[a]? = H[a]?) : zS1 C n d v A U H1 k := ⟨h.1.kept hq, fun h9 => (h.2 h9).kept hq⟩
def zS (G : CG) (A : Nat → Prop) (U : State) (H : Heap) : Prop := ∀ (k : Nat) (q : String × String × String), stL[k]? = some q → zS1 q.1 q.2.1 q.2.2 (va_rf (G.2.2.2.2 k)) A U H k
/-- class objects: of Object[] and of ArrayList -/
def zM (G : CG) (U : State) : Prop := ArrOfT U (G.2.2.1 6) (.object "java/lang/Long") ∧ ∃ m9 m10, G.2.2.2.2 21 = some m9 ∧ G.2.2.2.2 22 = some m10 ∧ va_Mi "[Ljava/lang/Object;" m9 U ∧ va_Mi "java/util/ArrayList" m10 U
def bC (G : CG) (A : Nat → Prop) (s : Sg) (U : State) (H : Heap) : Prop := va_K (G.1, G.2.1) clL (tysL G) U ∧ zS G A U H ∧ zE A s U H ∧ zH G A s H ∧ zM G U
theorem bC_mv (G : CG) (A : Nat → Prop) : jMv (bC G A) := fun w u U H hvm h => ⟨va_K.moved hvm h.1, fun k q hq => (h.2.1 k q hq).moved hvm, fun a k h1 h2 => (h.2.2.1 a k h1 h2).moved hvm, h.2.2.2.1, by obtain ⟨e0, m9, m10, e1, e2, e3, e4⟩ := h.2.2.2.2; exact ⟨arrOfT_moved hvm e0, m9, m10, e1, e2, e3.moved hvm, e4.moved hvm⟩⟩
/-- the words that ride in no list -/
def nwk (w : Cond) : Bool := match w with
  | .fieldLinkNest .. => true
  | .methodLinkNest .. => true
  | .castable .. => true
  | .declares .. => true
  | .interfaceMethod .. => true
  | .publicMethod .. => true
  | .unhidden .. => true
  | _ => false
def ifL : List (MethodName × MethodName) := [(⟨"java/util/List", "size", "()I"⟩, yJ2_size), (⟨"java/util/List", "get", "(I)Ljava/lang/Object;"⟩, yJ2_get), (⟨"java/util/List", "add", "(Ljava/lang/Object;)Z"⟩, yJ2_add), (⟨"java/util/List", "addAll", "(Ljava/util/Collection;)Z"⟩, yJ2_addAll), (⟨"java/util/List", "set", "(ILjava/lang/Object;)Ljava/lang/Object;"⟩, yJ2_set), (⟨"java/util/Collection", "toArray", "()[Ljava/lang/Object;"⟩, yJ2_toArray)]
theorem ifL_mh : ∀ q ∈ ifL, q.1.cls ≠ "java/lang/invoke/MethodHandle" ∧ q.1.cls ≠ "java/lang/invoke/VarHandle" := by decide +kernel
def kC (s : State) : Prop := (∀ w ∈ lw_tbl, nwk w = true → va_Nw w s) ∧ va_AO "java/lang/Object" s ∧ ∀ q ∈ ifL, va_Fw "java/util/ArrayList" q.1 q.2 s
theorem kC_v : jKv kC := by
  refine ⟨fun s U hW h => ⟨fun w hw hk => ?_, va_AO.moved hW.alike h.2.1, fun q hq => va_Fw.moved (ifL_mh q hq) hW.alike (h.2.2 q hq)⟩, fun s U hvm h => ⟨fun w hw hk => ?_, va_AO.moved (by rw [hvm]; exact Vm.Alike.refl _) h.2.1, fun q hq => va_Fw.moved (ifL_mh q hq) (by rw [hvm]; exact Vm.Alike.refl _) (h.2.2 q hq)⟩⟩
  · have h1 := h.1 w hw hk
    cases w with
    | fieldLinkNest => exact va_Nw.warmF hW h1
    | methodLinkNest => exact va_Nw.warmM hW h1
    | castable => exact va_Nw.warmC hW h1
    | declares => exact va_Nw.warmD hW h1
    | interfaceMethod r o n d =>
      have e : (Cond.interfaceMethod r o n d).before #[] (s.setVm U.vm) = (Cond.interfaceMethod r o n d).before #[] s := by
        simp only [Cond.before, Cond.holds, Cond.value, State.vm_setVm, hW.alike.findClass, State.methodFound?_setVm hW.alike, State.methodNamed?_setVm hW.alike, arm_isInterface_setVm hW.alike]
      exact va_tabs rfl (rfl : (s.setVm U.vm).vm = U.vm) (e.trans h1)
    | publicMethod => exact va_tabs rfl (rfl : (s.setVm U.vm).vm = U.vm) (by rw [Cond.publicMethod_setVm hW.alike]; exact h1)
    | unhidden => exact va_tabs rfl (rfl : (s.setVm U.vm).vm = U.vm) (by rw [Cond.unhidden_setVm hW.alike]; exact h1)
    | _ => cases hk
  · have h1 := h.1 w hw hk
    cases w with
    | fieldLinkNest => exact va_Nw.same rfl hvm h1
    | methodLinkNest => exact va_Nw.same rfl hvm h1
    | castable => exact va_Nw.same rfl hvm h1
    | declares => exact va_Nw.same rfl hvm h1
    | interfaceMethod => exact va_Nw.same rfl hvm h1
    | publicMethod => exact va_Nw.same rfl hvm h1
    | unhidden => exact va_Nw.same rfl hvm h1
    | _ => cases hk
/-! the pure operations -/
theorem gfI_s {s : Sg} {t g : Nat} {r : Option Nat} {v : Int} (h : gfI s t g r = some v) : ∃ a, r = some a ∧ zT s a = t ∧ zI s a g = v := by
  obtain ⟨a, h1, h2⟩ := ob h
  by_cases hc : zT s a = t
  · rw [if_pos hc] at h2; exact ⟨a, h1, hc, Option.some.inj h2⟩
  · rw [if_neg hc] at h2; cases h2
theorem gfR_s {s : Sg} {t g : Nat} {r : Option Nat} {v : Option Nat} (h : gfR s t g r = some v) : ∃ a, r = some a ∧ zT s a = t ∧ zR s a g = v := by
  obtain ⟨a, h1, h2⟩ := ob h
  by_cases hc : zT s a = t
  · rw [if_pos hc] at h2; exact ⟨a, h1, hc, Option.some.inj h2⟩
  · rw [if_neg hc] at h2; cases h2
theorem pfI_s {G0 : Nat} {s s1 : Sg} {t g : Nat} {r : Option Nat} {v : Int} (h : pfI G0 s t g r v = some s1) : ∃ a, r = some a ∧ (zT s a = t ∧ G0 ≤ a) ∧ zsI s a g v = s1 := by
  obtain ⟨a, h1, h2⟩ := ob h
  by_cases hc : zT s a = t ∧ G0 ≤ a
  · rw [if_pos hc] at h2; exact ⟨a, h1, hc, Option.some.inj h2⟩
  · rw [if_neg hc] at h2; cases h2
theorem pfR_s {G0 : Nat} {s s1 : Sg} {t g : Nat} {r : Option Nat} {v : Option Nat} (h : pfR G0 s t g r v = some s1) : ∃ a, r = some a ∧ (zT s a = t ∧ G0 ≤ a) ∧ zsR s a g v = s1 := by
  obtain ⟨a, h1, h2⟩ := ob h
  by_cases hc : zT s a = t ∧ G0 ≤ a
  · rw [if_pos hc] at h2; exact ⟨a, h1, hc, Option.some.inj h2⟩
  · rw [if_neg hc] at h2; cases h2
theorem alI_s {s : Sg} {t : Nat} {r : Option Nat} {i v : Int} (h : alI s t r i = some v) : ∃ a, r = some a ∧ (zT s a = 100 + t ∧ 0 ≤ w32 i ∧ w32 i < zL s a) ∧ zA s a (w32 i).toNat = v := by
  obtain ⟨a, h1, h2⟩ := ob h
  by_cases hc : zT s a = 100 + t ∧ 0 ≤ w32 i ∧ w32 i < zL s a
  · rw [if_pos hc] at h2; exact ⟨a, h1, hc, Option.some.inj h2⟩
  · rw [if_neg hc] at h2; cases h2
theorem alR_s {s : Sg} {t : Nat} {r : Option Nat} {i : Int} {v : Option Nat} (h : alR s t r i = some v) : ∃ a, r = some a ∧ (zT s a = 100 + t ∧ 0 ≤ w32 i ∧ w32 i < zL s a) ∧ zB s a (w32 i).toNat = v := by
  obtain ⟨a, h1, h2⟩ := ob h
  by_cases hc : zT s a = 100 + t ∧ 0 ≤ w32 i ∧ w32 i < zL s a
  · rw [if_pos hc] at h2; exact ⟨a, h1, hc, Option.some.inj h2⟩
  · rw [if_neg hc] at h2; cases h2
theorem asI_s {G0 : Nat} {s s1 : Sg} {t : Nat} {r : Option Nat} {i v : Int} (h : asI G0 s t r i v = some s1) : ∃ a, r = some a ∧ ((zT s a = 100 + t ∧ G0 ≤ a) ∧ 0 ≤ w32 i ∧ w32 i < zL s a) ∧ zsA s a (w32 i).toNat v = s1 := by
  obtain ⟨a, h1, h2⟩ := ob h
  by_cases hc : (zT s a = 100 + t ∧ G0 ≤ a) ∧ 0 ≤ w32 i ∧ w32 i < zL s a
  · rw [if_pos hc] at h2; exact ⟨a, h1, hc, Option.some.inj h2⟩
  · rw [if_neg hc] at h2; cases h2
theorem alen_s {s : Sg} {t : Nat} {r : Option Nat} {v : Int} (h : alen s t r = some v) : ∃ a, r = some a ∧ zT s a = 100 + t ∧ (zL s a : Int) = v := by
  obtain ⟨a, h1, h2⟩ := ob h
  by_cases hc : zT s a = 100 + t
  · rw [if_pos hc] at h2; exact ⟨a, h1, hc, Option.some.inj h2⟩
  · rw [if_neg hc] at h2; cases h2
/-- a class by its number -/
def zCl (ci : Nat) (C : String) (T : u_T) (N : Nat) (ty : Nat → FieldType) : Prop := isO ci ∧ clL[ci]? = some (C, T, N) ∧ (∀ w ∈ u_ws C T N, w ∈ lw_all) ∧ (∀ k, k < N → parseFieldDescriptor (T k).2.2.1 = some (ty k)) ∧ (∀ a, a < N → ∀ b, b < N → a ≠ b → (T a).2.1 ≠ (T b).2.1) ∧ N ≤ 40
/-- a field as an entry of a class names it -/
def zFl (own : String) (idx : Nat) (ref : String) (T : u_T) (k : Nat) : Prop := Cond.fieldLink own idx ref (T k).2.1 (T k).2.2.1 ∈ lw_all ∧ ∀ (s : State) (args : Array Value), (∀ w ∈ lw_all, w.before args s = true) → ∀ x, s.fieldFound? (T k).1 (T k).2.1 (T k).2.2.1 = some x → s.fieldFound? ref (T k).2.1 (T k).2.2.1 = some x
def zFn (own : String) (idx : Nat) (T : u_T) (k : Nat) (host : String) : Prop := Cond.fieldLinkNest own idx (T k).1 (T k).2.1 (T k).2.2.1 host ∈ lw_tbl
theorem zcl_0 : zCl 0 RX0 TX0 32 tyX0 := ⟨⟨by decide, by decide, by decide⟩, rfl, in_X0, tyX0_ok, nmX0, by decide⟩
theorem zcl_1 : zCl 1 RX1 TX1 2 tyX1 := ⟨⟨by decide, by decide, by decide⟩, rfl, in_X1, tyX1_ok, nmX1, by decide⟩
theorem zcl_2 : zCl 2 RX2 TX2 7 tyX2 := ⟨⟨by decide, by decide, by decide⟩, rfl, in_X2, tyX2_ok, nmX2, by decide⟩
theorem zcl_3 : zCl 3 RX3 TX3 10 tyX3 := ⟨⟨by decide, by decide, by decide⟩, rfl, in_X3, tyX3_ok, nmX3, by decide⟩
theorem zcl_4 : zCl 4 RX4 TX4 3 tyX4 := ⟨⟨by decide, by decide, by decide⟩, rfl, in_X4, tyX4_ok, nmX4, by decide⟩
theorem zcl_5 : zCl 5 RJ2 TJ2 3 tyJ2 := ⟨⟨by decide, by decide, by decide⟩, rfl, in_J2, tyJ2_ok, nmJ2, by decide⟩
theorem zcl_6 : zCl 6 RX6 TX6 14 tyX6 := ⟨⟨by decide, by decide, by decide⟩, rfl, in_X6, tyX6_ok, nmX6, by decide⟩
theorem zcl_7 : zCl 7 RX7 TX7 11 tyX7 := ⟨⟨by decide, by decide, by decide⟩, rfl, in_X7, tyX7_ok, nmX7, by decide⟩
theorem zcl_8 : zCl 8 RX8 TX8 8 tyX8 := ⟨⟨by decide, by decide, by decide⟩, rfl, in_X8, tyX8_ok, nmX8, by decide⟩
theorem zcl_9 : zCl 9 RX9 TX9 6 tyX9 := ⟨⟨by decide, by decide, by decide⟩, rfl, in_X9, tyX9_ok, nmX9, by decide⟩
theorem zcl_11 : zCl 11 RX11 TX11 1 tyX11 := ⟨⟨by decide, by decide, by decide⟩, rfl, in_X11, tyX11_ok, nmX11, by decide⟩
theorem zcl_12 : zCl 12 RX12 TX12 1 tyX12 := ⟨⟨by decide, by decide, by decide⟩, rfl, in_X12, tyX12_ok, nmX12, by decide⟩
theorem zcl_13 : zCl 13 RX13 TX13 3 tyX13 := ⟨⟨by decide, by decide, by decide⟩, rfl, in_X13, tyX13_ok, nmX13, by decide⟩
theorem zcl_14 : zCl 14 RX14 TX14 3 tyX14 := ⟨⟨by decide, by decide, by decide⟩, rfl, in_X14, tyX14_ok, nmX14, by decide⟩
theorem zcl_15 : zCl 15 RX15 TX15 2 tyX15 := ⟨⟨by decide, by decide, by decide⟩, rfl, in_X15, tyX15_ok, nmX15, by decide⟩
theorem zcl_16 : zCl 16 RX16 TX16 3 tyX16 := ⟨⟨by decide, by decide, by decide⟩, rfl, in_X16, tyX16_ok, nmX16, by decide⟩
theorem zcl_17 : zCl 17 RX17 TX17 3 tyX17 := ⟨⟨by decide, by decide, by decide⟩, rfl, in_X17, tyX17_ok, nmX17, by decide⟩
theorem zcl_18 : zCl 18 RX18 TX18 2 tyX18 := ⟨⟨by decide, by decide, by decide⟩, rfl, in_X18, tyX18_ok, nmX18, by decide⟩
theorem zcl_19 : zCl 19 RX19 TX19 3 tyX19 := ⟨⟨by decide, by decide, by decide⟩, rfl, in_X19, tyX19_ok, nmX19, by decide⟩
theorem zcl_20 : zCl 20 RX20 TX20 5 tyX20 := ⟨⟨by decide, by decide, by decide⟩, rfl, in_X20, tyX20_ok, nmX20, by decide⟩
theorem zcl_21 : zCl 21 RX21 TX21 7 tyX21 := ⟨⟨by decide, by decide, by decide⟩, rfl, in_X21, tyX21_ok, nmX21, by decide⟩
theorem zcl_28 : zCl 28 RJ15 TJ15 1 tyJ15 := ⟨⟨by decide, by decide, by decide⟩, rfl, in_J15, tyJ15_ok, nmJ15, by decide⟩
section CHeap
variable {G : CG} {A : Nat → Prop}
theorem okA_eq {s s1 : Sg} {H H1 : Heap} {a : Nat} (h : okA G s H a) (hq : H1[a]? = H[a]?) (ht : zT s1 a = zT s a) (hl : zL s1 a = zL s a) (hi : zI s1 a = zI s a) (hr : zR s1 a = zR s a) (ha : zA s1 a = zA s a) (hb : zB s1 a = zB s a) : okA G s1 H1 a := by
  refine ⟨fun ci h1 h2 => ?_, fun t h1 h2 h3 => ?_⟩
  · obtain ⟨r, q1, q2⟩ := h.1 ci (ht ▸ h1) h2
    refine ⟨r, q1, (q2.1.kept hq).to fun k _ => ?_, fun h8 => ⟨fun cell hc => (q2.2 h8).1 cell (by rw [← hq]; exact hc), (q2.2 h8).2⟩⟩
    unfold oV
    rw [hi, hr]
  · have e : eV s1 t a = eV s t a := by
      funext j
      unfold eV
      rw [ha, hb]
    rw [hl, e]
    exact (h.2 t (ht ▸ h1) h2 h3).kept hq
/-- one cell of ours is written -/
theorem bC_write {s s1 : Sg} {U : State} {H H1 : Heap} {a : Nat} (hB : bC G A s U H) (ha : zT s a ≠ 0) (hb : G.2.2.2.1 ≤ a) (hz : H1.size = H.size) (oq : ∀ q : Nat, q ≠ a → H1[q]? = H[q]?) (h1 : okA G s1 H1 a) (hT : zT s1 = zT s) (hL : ∀ q, q ≠ a → zL s1 q = zL s q ∧ zI s1 q = zI s q ∧ zR s1 q = zR s q ∧ zA s1 q = zA s q ∧ zB s1 q = zB s q) (hN : zN s1 = zN s) : bC G A s1 U H1 := by
  obtain ⟨hK, hS, hE, ⟨h2, h3, h4, h5, h6, h7⟩, hMi⟩ := hB
  have hA : A a := h4 a ha hb
  have keep : ∀ q : Nat, q < H.size → ¬ A q → H1[q]? = H[q]? := fun q _ hq => oq q (fun e => hq (e ▸ hA))
  refine ⟨hK, fun k q hq => (hS k q hq).kept keep, fun q k hq hk => ?_, ⟨by rw [hN, hz]; exact h2, fun q => ?_, fun q hq => h4 q (hT ▸ hq), by rw [hN]; exact h5, fun q hq => by rw [hN]; exact h6 q (hT ▸ hq), by rw [hN]; exact h7⟩, hMi⟩
  · obtain ⟨cell, g1, g2, g3, g4⟩ := hE q k (hT ▸ hq) hk
    exact ⟨cell, by rw [oq q (fun e => g4 (e ▸ hA))]; exact g1, g2, g3, g4⟩
  · by_cases hqa : q = a
    · rw [hqa]; exact h1
    · obtain ⟨e1, e2, e3, e4, e5⟩ := hL q hqa
      exact okA_eq (h3 q) (oq q hqa) (by rw [hT]) e1 e2 e3 e4 e5
theorem up2_ne {α : Type} {f : Nat → Nat → α} {a k q : Nat} {v : α} (h : q ≠ a) : up2 f a k v q = f q := by
  funext j; unfold up2; rw [if_neg (fun z => h z.1)]
theorem up2_at {α : Type} {f : Nat → Nat → α} {a k : Nat} {v : α} : up2 f a k v a k = v := by unfold up2; rw [if_pos ⟨rfl, rfl⟩]
theorem up2_k {α : Type} {f : Nat → Nat → α} {a k j : Nat} {v : α} (h : j ≠ k) : up2 f a k v a j = f a j := by unfold up2; rw [if_neg (fun z => h z.2)]
/-- the cell of an object -/
theorem bC_objR {s : Sg} {U : State} {H : Heap} {a ci N : Nat} {C : String} {T : u_T} {ty : Nat → FieldType} (hB : bC G A s U H) (hc : zCl ci C T N ty) (ht : zT s a = ci + 1) : oOb G.2.2.2.1 a (G.1 ci) N (G.2.1 ci) H (oV s ci a) := by
  obtain ⟨r, q1, q2⟩ := (hB.2.2.2.1.2.1 a).1 ci ht hc.1
  rw [hc.2.1] at q1
  cases q1
  exact q2.1
theorem bC_obj {s : Sg} {U : State} {H : Heap} {a ci N : Nat} {C : String} {T : u_T} {ty : Nat → FieldType} (hB : bC G A s U H) (hc : zCl ci C T N ty) (ht : zT s a = ci + 1) (hb : G.2.2.2.1 ≤ a) : t_OB a (G.1 ci) N (G.2.1 ci) H (oV s ci a) := (bC_objR hB hc ht).ex hb
theorem bC_fst {s : Sg} {U : State} {H : Heap} {a : Nat} (hB : bC G A s U H) (ht : zT s a = 9) : G.2.2.2.1 ≤ a := by
  obtain ⟨r, q1, q2⟩ := (hB.2.2.2.1.2.1 a).1 8 ht ⟨by decide, by decide, by decide⟩
  exact (q2.2 rfl).2
theorem bC_mon {s : Sg} {U : State} {H : Heap} {a ci : Nat} (hB : bC G A s U H) (hi : isO ci) (ht : zT s a = ci + 1) (h8 : ci = 8) : mon H a := by
  obtain ⟨r, q1, q2⟩ := (hB.2.2.2.1.2.1 a).1 ci ht hi
  exact (q2.2 h8).1
theorem bC_arr {s : Sg} {U : State} {H : Heap} {a t : Nat} (hB : bC G A s U H) (ht : zT s a = 100 + t) (h1 : 1 ≤ t) (h2 : t ≤ 6) (hb : G.2.2.2.1 ≤ a) : H[a]? = some (arrV (G.2.2.1 t) (zL s a) (eV s t a)) := ((hB.2.2.2.1.2.1 a).2 t ht h1 h2).ex hb
theorem bC_arrR {s : Sg} {U : State} {H : Heap} {a t : Nat} (hB : bC G A s U H) (ht : zT s a = 100 + t) (h1 : 1 ≤ t) (h2 : t ≤ 6) : aOb G.2.2.2.1 a (G.2.2.1 t) (zL s a) (eV s t a) H := (hB.2.2.2.1.2.1 a).2 t ht h1 h2
theorem bC_tag {s : Sg} {U : State} {H : Heap} {a t : Nat} (hB : bC G A s U H) (ht : zT s a = t) (h0 : t ≠ 0) : zT s a ≠ 0 := by rw [ht]; exact h0
theorem nodup_g {ci k j : Nat} (h : 40 * ci + j = 40 * ci + k) : j = k := by omega
end CHeap
section CRows
variable {G : CG} {A : Nat → Prop} {l : Launch} {D : MD} {a : List PV} {Q : List Frame → State → State → Prop} {w : Sg} {mc ms ce sl pc : Nat} {lv lv' : List (Nat × PV)} {st : List PV}
theorem c_get {ci k N idx b : Nat} {C ref : String} {T : u_T} {ty : Nat → FieldType} {v : PV} (hc : zCl ci C T N ty) (hk : k < N) (hf : zFl D.1 idx ref T k) (ht : zT w b = ci + 1) (hv : oV w ci b k = mv v) (hd : decode D.2.1 pc = .ok (.getfield idx, 3)) (kk : JW kC (bC G A) A l D a Q mc ms w ce sl (pc + 3) lv (v :: st)) : JW kC (bC G A) A l D a Q mc ms w ce sl pc lv (pR (some b) :: st) := by
  intro p e s m below meth c H locs ls X hr hlk hn hK hB hS hl
  have h := kk p e s m below meth c H locs ls X hr hlk hn hK hB hS hl
  obtain ⟨cell, q1, q2, q3, -, -, q4⟩ := bC_objR hB hc ht
  obtain ⟨hSl, hfc, kC, hkC, hkind⟩ := hB.1.1 ci _ hc.2.1
  obtain ⟨cf, kf, fi, f, hi, hsl⟩ := hSl k hk
  rw [List.map_cons, ← hv] at h
  refine W.getf X.1 X.2.1 X.2.2.2.1 (X.2.2.2.2 _ hf.1) (hf.2 s _ X.2.2.2.2 _ hi) (u_facts hfc hkC (u_lays X.2.2.2.2 hc.2.2.1 hk) hi).1 q1 q3 (v := oV w ci b k) ?_ rfl rfl hd h
  rw [hsl, q4 k hk]
theorem c_getN {ci k N idx b : Nat} {C host : String} {T : u_T} {ty : Nat → FieldType} {v : PV} (hc : zCl ci C T N ty) (hk : k < N) (hf : zFn D.1 idx T k host) (ht : zT w b = ci + 1) (hv : oV w ci b k = mv v) (hd : decode D.2.1 pc = .ok (.getfield idx, 3)) (kk : JW kC (bC G A) A l D a Q mc ms w ce sl (pc + 3) lv (v :: st)) : JW kC (bC G A) A l D a Q mc ms w ce sl pc lv (pR (some b) :: st) := by
  intro p e s m below meth c H locs ls X hr hlk hn hK hB hS hl
  have h := kk p e s m below meth c H locs ls X hr hlk hn hK hB hS hl
  obtain ⟨cell, q1, q2, q3, -, -, q4⟩ := bC_objR hB hc ht
  obtain ⟨hSl, hfc, kC, hkC, hkind⟩ := hB.1.1 ci _ hc.2.1
  obtain ⟨cf, kf, fi, f, hi, hsl⟩ := hSl k hk
  rw [List.map_cons, ← hv] at h
  refine va_Wgetf X.1 X.2.1 X.2.2.2.1 (va_Nw.use rfl (hK.1 _ hf rfl)) hi (u_facts hfc hkC (u_lays X.2.2.2.2 hc.2.2.1 hk) hi).1 q1 q3 (v := oV w ci b k) ?_ rfl rfl hd h
  rw [hsl, q4 k hk]
theorem c_geti {ci k N idx : Nat} {C ref : String} {T : u_T} {ty : Nat → FieldType} {r : Option Nat} {v : Int} (h : gfI w (ci + 1) (40 * ci + k) r = some v) (hc : zCl ci C T N ty) (hk : k < N) (hf : zFl D.1 idx ref T k) (hkd : fkd (40 * ci + k) = 0) (hd : decode D.2.1 pc = .ok (.getfield idx, 3)) (kk : JW kC (bC G A) A l D a Q mc ms w ce sl (pc + 3) lv (pI v :: st)) : JW kC (bC G A) A l D a Q mc ms w ce sl pc lv (pR r :: st) := by
  obtain ⟨b, rfl, ht, rfl⟩ := gfI_s h
  exact c_get hc hk hf ht (by unfold oV; rw [hkd]; rfl) hd kk
theorem c_getl {ci k N idx : Nat} {C ref : String} {T : u_T} {ty : Nat → FieldType} {r : Option Nat} {v : Int} (h : gfI w (ci + 1) (40 * ci + k) r = some v) (hc : zCl ci C T N ty) (hk : k < N) (hf : zFl D.1 idx ref T k) (hkd : fkd (40 * ci + k) = 1) (hd : decode D.2.1 pc = .ok (.getfield idx, 3)) (kk : JW kC (bC G A) A l D a Q mc ms w ce sl (pc + 3) lv (pL v :: st)) : JW kC (bC G A) A l D a Q mc ms w ce sl pc lv (pR r :: st) := by
  obtain ⟨b, rfl, ht, rfl⟩ := gfI_s h
  exact c_get hc hk hf ht (by unfold oV; rw [hkd]; rfl) hd kk
theorem c_geta {ci k N idx : Nat} {C ref : String} {T : u_T} {ty : Nat → FieldType} {r : Option Nat} {v : Option Nat} (h : gfR w (ci + 1) (40 * ci + k) r = some v) (hc : zCl ci C T N ty) (hk : k < N) (hf : zFl D.1 idx ref T k) (hkd : fkd (40 * ci + k) = 2) (hd : decode D.2.1 pc = .ok (.getfield idx, 3)) (kk : JW kC (bC G A) A l D a Q mc ms w ce sl (pc + 3) lv (pR v :: st)) : JW kC (bC G A) A l D a Q mc ms w ce sl pc lv (pR r :: st) := by
  obtain ⟨b, rfl, ht, rfl⟩ := gfR_s h
  exact c_get hc hk hf ht (by unfold oV; rw [hkd]; rfl) hd kk
theorem c_getiN {ci k N idx : Nat} {C ref : String} {T : u_T} {ty : Nat → FieldType} {r : Option Nat} {v : Int} (h : gfI w (ci + 1) (40 * ci + k) r = some v) (hc : zCl ci C T N ty) (hk : k < N) (hf : zFn D.1 idx T k ref) (hkd : fkd (40 * ci + k) = 0) (hd : decode D.2.1 pc = .ok (.getfield idx, 3)) (kk : JW kC (bC G A) A l D a Q mc ms w ce sl (pc + 3) lv (pI v :: st)) : JW kC (bC G A) A l D a Q mc ms w ce sl pc lv (pR r :: st) := by
  obtain ⟨b, rfl, ht, rfl⟩ := gfI_s h
  exact c_getN hc hk hf ht (by unfold oV; rw [hkd]; rfl) hd kk
theorem c_getlN {ci k N idx : Nat} {C ref : String} {T : u_T} {ty : Nat → FieldType} {r : Option Nat} {v : Int} (h : gfI w (ci + 1) (40 * ci + k) r = some v) (hc : zCl ci C T N ty) (hk : k < N) (hf : zFn D.1 idx T k ref) (hkd : fkd (40 * ci + k) = 1) (hd : decode D.2.1 pc = .ok (.getfield idx, 3)) (kk : JW kC (bC G A) A l D a Q mc ms w ce sl (pc + 3) lv (pL v :: st)) : JW kC (bC G A) A l D a Q mc ms w ce sl pc lv (pR r :: st) := by
  obtain ⟨b, rfl, ht, rfl⟩ := gfI_s h
  exact c_getN hc hk hf ht (by unfold oV; rw [hkd]; rfl) hd kk
theorem c_getaN {ci k N idx : Nat} {C ref : String} {T : u_T} {ty : Nat → FieldType} {r : Option Nat} {v : Option Nat} (h : gfR w (ci + 1) (40 * ci + k) r = some v) (hc : zCl ci C T N ty) (hk : k < N) (hf : zFn D.1 idx T k ref) (hkd : fkd (40 * ci + k) = 2) (hd : decode D.2.1 pc = .ok (.getfield idx, 3)) (kk : JW kC (bC G A) A l D a Q mc ms w ce sl (pc + 3) lv (pR v :: st)) : JW kC (bC G A) A l D a Q mc ms w ce sl pc lv (pR r :: st) := by
  obtain ⟨b, rfl, ht, rfl⟩ := gfR_s h
  exact c_getN hc hk hf ht (by unfold oV; rw [hkd]; rfl) hd kk
end CRows
