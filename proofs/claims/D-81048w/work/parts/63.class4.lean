/-! usage of room; new cells -/
theorem bdU_s {α β : Type} {x : Option (α × Nat × Nat)} {k : α → Option (β × Nat × Nat)} {r : β} {c n : Nat} (h : bdU x k = some (r, c, n)) : ∃ q c0 n0 c1 n1, x = some (q, c0, n0) ∧ k q = some (r, c1, n1) ∧ c = c1 + c0 ∧ n = n1 + n0 := by
  unfold bdU at h
  obtain ⟨⟨q, c0, n0⟩, h1, h2⟩ := ob h
  rw [Option.map_eq_some_iff] at h2
  obtain ⟨⟨r1, c1, n1⟩, h3, h4⟩ := h2
  cases h4
  exact ⟨q, c0, n0, c1, n1, h1, h3, rfl, rfl⟩
theorem bdU_0 {α β : Type} {t : α} {k : α → Option (β × Nat × Nat)} {r : β × Nat × Nat} (h : bdU (some (t, 0, 0)) k = some r) : k t = some r := by
  unfold bdU at h
  obtain ⟨q, h1, h2⟩ := ob h
  cases h1
  rw [Option.map_eq_some_iff] at h2
  obtain ⟨r1, h3, h4⟩ := h2
  rw [h3, ← h4]
  rfl
theorem bdU_a {α β γ : Type} {x : Option (α × Nat × Nat)} {f : α → Option (β × Nat × Nat)} {k : β → Option (γ × Nat × Nat)} {r : γ × Nat × Nat} (h : bdU (bdU x f) k = some r) : bdU x (fun q => bdU (f q) k) = some r := by
  obtain ⟨r, c, n⟩ := r
  obtain ⟨q, c0, n0, c1, n1, h1, h2, rfl, rfl⟩ := bdU_s h
  obtain ⟨p, c2, n2, c3, n3, h3, h4, rfl, rfl⟩ := bdU_s h1
  unfold bdU
  rw [h3]
  simp only [Option.bind_some, h4, h2, Option.map_some]
  simp [Nat.add_assoc]
theorem obK {α β γ : Type} {x : Option α} {f : α → Option (β × Nat × Nat)} {k : β → Option (γ × Nat × Nat)} {r : γ × Nat × Nat} (h : bdU (x.bind f) k = some r) : ∃ v, x = some v ∧ bdU (f v) k = some r := by
  unfold bdU at h
  rw [Option.bind_assoc] at h
  exact ob h
theorem obaK {α β γ : Type} {x : Option α} {f : α → Option (β × Nat × Nat)} {k : β → Option (γ × Nat × Nat)} {r : γ × Nat × Nat} (h : bdU (x.bind f) k = some r) : x.bind (fun v => bdU (f v) k) = some r := by
  unfold bdU at h
  rw [Option.bind_assoc] at h
  exact h
theorem itK {c : Prop} {d : Decidable c} {α β : Type} {x y : Option (α × Nat × Nat)} {k : α → Option (β × Nat × Nat)} {r : Option (β × Nat × Nat)} (hc : c) (h : bdU (@ite _ c d x y) k = r) : bdU x k = r := by rw [if_pos hc] at h; exact h
theorem ieK {c : Prop} {d : Decidable c} {α β : Type} {x y : Option (α × Nat × Nat)} {k : α → Option (β × Nat × Nat)} {r : Option (β × Nat × Nat)} (hc : ¬ c) (h : bdU (@ite _ c d x y) k = r) : bdU y k = r := by rw [if_neg hc] at h; exact h
theorem onK {α β : Type} {k : α → Option (β × Nat × Nat)} {r : β × Nat × Nat} {P : Prop} (h : bdU (none : Option (α × Nat × Nat)) k = some r) : P := by cases h
theorem retU {α : Type} {x r : α} {c n : Nat} (h : some (x, 0, 0) = some (r, c, n)) : x = r := by cases h; rfl
def dV : Nat → Value := fun k => match k with
  | 0 => .int (jI 0)
  | 1 => .long (jL 0)
  | _ => .null
theorem bC_grow {G : CG} {A : Nat → Prop} {w : Sg} {U : State} {H H1 : Heap} {t n : Nat} (hB : bC G A w U H) (hz : H1.size = H.size + 1) (o1 : ∀ q, q < H.size → H1[q]? = H[q]?) (h1 : okA G (znew w t n) H1 (zN w)) (ht : ¬ (23 ≤ t ∧ t < 29)) : bC G A (znew w t n) U H1 := by
  obtain ⟨hK, hS, hE, ⟨h2, h3, h4, h5, h6, h7⟩, hMi⟩ := hB
  have keep : ∀ q : Nat, q < H.size → ¬ A q → H1[q]? = H[q]? := fun q hq _ => o1 q hq
  have hne : ∀ q, q ≠ zN w → zT (znew w t n) q = zT w q ∧ zL (znew w t n) q = zL w q ∧ zI (znew w t n) q = zI w q ∧ zR (znew w t n) q = zR w q ∧ zA (znew w t n) q = zA w q ∧ zB (znew w t n) q = zB w q := by
    intro q hq
    refine ⟨?_, ?_, ?_, ?_, ?_, ?_⟩ <;> exact if_neg hq
  have hat : zT (znew w t n) (zN w) = t := if_pos rfl
  refine ⟨hK, fun k q hq => (hS k q hq).kept keep, fun q k hq hk => ?_, ⟨by rw [hz]; show zN w + 1 = _; rw [h2], fun q => ?_, fun q hq hb => ?_, fun q hq => h5 q (by have : zN w + 1 ≤ q := hq; omega), fun q hq => ?_, by show _ ≤ zN w + 1; omega⟩, hMi⟩
  · by_cases hqn : q = zN w
    · rw [hqn, hat] at hq; exact absurd ⟨by omega, by omega⟩ ht
    · rw [(hne q hqn).1] at hq
      obtain ⟨cell, g1, g2, g3, g4⟩ := hE q k hq hk
      exact ⟨cell, by rw [o1 q (Array.getElem?_eq_some_iff.mp g1).1]; exact g1, g2, g3, g4⟩
  · by_cases hqn : q = zN w
    · rw [hqn]; exact h1
    · obtain ⟨e1, e2, e3, e4, e5, e6⟩ := hne q hqn
      by_cases h0 : zT w q = 0
      · exact ⟨fun ci h8 _ => by rw [e1, h0] at h8; omega, fun t8 h8 _ _ => by rw [e1, h0] at h8; omega⟩
      · exact okA_eq (h3 q) (o1 q (by rw [← h2]; exact h6 q h0)) e1 e2 e3 e4 e5 e6
  · by_cases hqn : q = zN w
    · rw [hqn]; exact h5 _ (Nat.le_refl _)
    · rw [(hne q hqn).1] at hq; exact h4 q hq hb
  · show q < zN w + 1
    by_cases hqn : q = zN w
    · omega
    · rw [(hne q hqn).1] at hq; have := h6 q hq; omega
theorem hS_grow {A : Nat → Prop} {H0 H H1 : Heap} {locs : List Loc} (hS : va_S A H0 H locs) (hz : H1.size = H.size + 1) (o1 : ∀ q, q < H.size → H1[q]? = H[q]?) : va_S A H0 H1 locs := ⟨Nat.le_trans hS.1 (by omega), fun x h1 h2 => (o1 x (Nat.lt_of_lt_of_le h1 hS.1)).trans (hS.2.1 x h1 h2), hS.2.2⟩
section CNew
variable {G : CG} {A : Nat → Prop} {l : Launch} {D : MD} {a : List PV} {Q : List Frame → State → State → Prop} {w w1 : Sg} {mc ms ce sl pc : Nat} {lv lv' : List (Nat × PV)} {st : List PV}
/-- a class that can be made -/
def zMk (ci : Nat) (C : String) (N : Nat) (ty : Nat → FieldType) : Prop := Cond.instantiable C N ∈ lw_all ∧ Cond.initialized C ∈ lw_all ∧ ∀ k, k < N → defaultValue (ty k) = dV (fkd (40 * ci + k))
theorem c_new {ci N idx : Nat} {C : String} {T : u_T} {ty : Nat → FieldType} {q : Nat × Sg} {c1 n1 : Nat} (h : zNew w (ci + 1) N = some (q, c1, n1)) (hc : zCl ci C T N ty) (hm : zMk ci C N ty) (hf : Cond.classLink D.1 idx C ∈ lw_all) (hd : decode D.2.1 pc = .ok (.new idx, 3)) (hcs : ce + c1 ≤ mc ∧ sl + n1 ≤ ms) (kk : JW kC (bC G A) A l D a Q mc ms q.2 (ce + c1) (sl + n1) (pc + 3) lv (pR (some q.1) :: st)) : JW kC (bC G A) A l D a Q mc ms w ce sl pc lv st := by
  intro p e s m below meth c H locs ls X hr hlk hn hK hB hS hl
  cases h
  have hKn := hB.1.1 ci _ hc.2.1
  have hN := hB.2.2.2.1.1
  refine W.newcK X.1 X.2.1 X.2.2.2.1 (X.2.2.2.2 _ hf) (X.2.2.2.2 _ hm.1) (X.2.2.2.2 _ hm.2.1) rfl hd hcs.1 hcs.2 hKn.2.1 (h := zN w) hN.symm fun H1 kC9 hkC e1 z1 o1 => ?_
  have z1 : H1.size = H.size + 1 := by rw [z1, hN]
  have o1 : ∀ q, q < H.size → H1[q]? = H[q]? := fun q hq => o1 q (by rw [hN]; exact hq)
  have hob := (u_born ty X.2.2.2.2 hc.2.2.1 hKn hkC e1 hc.2.2.2.1)
  have hi := hc.1
  have hB1 : bC G A (znew w (ci + 1) 0) s H1 := by
    refine bC_grow hB z1 o1 ⟨fun cj h1 h2 => ?_, fun t h1 h2 h3 => ?_⟩ (by unfold isO at hi; omega)
    · have h1 : va_up (zT w) (zN w) (ci + 1) (zN w) = cj + 1 := h1
      unfold va_up at h1
      rw [if_pos rfl] at h1
      have : cj = ci := by omega
      subst this
      refine ⟨_, hc.2.1, oOb.of (hob.to fun k hk => ?_), fun _ => ⟨fun c9 h9 => by cases Option.some.inj (e1.symm.trans h9); exact ⟨rfl, rfl⟩, hB.2.2.2.1.2.2.2.2.2⟩⟩
      rw [hm.2.2 k hk]
      unfold oV dV
      have e1 : zI (znew w (cj + 1) 0) (zN w) = fun _ => 0 := if_pos rfl
      have e2 : zR (znew w (cj + 1) 0) (zN w) = fun _ => none := if_pos rfl
      rw [e1, e2]
      generalize fkd (40 * cj + k) = kd
      match kd with
      | 0 => rfl
      | 1 => rfl
      | _ + 2 => rfl
    · have h1 : va_up (zT w) (zN w) (ci + 1) (zN w) = 100 + t := h1
      unfold va_up at h1
      rw [if_pos rfl] at h1
      have := hi.1
      omega
  exact kk p e s m below meth c H1 locs ls X hr hlk hn hK hB1 (hS_grow hS z1 o1) hl
def zAt (t : Nat) (aty : ArrayType) : Prop := Cond.arrayClass (newarray.typeOf aty) ∈ lw_all ∧ 1 ≤ t ∧ t ≤ 4 ∧ (newarray.typeOf aty = match t with | 1 => FieldType.int | 2 => .byte | 3 => .boolean | _ => .long)
theorem c_newa {t : Nat} {aty : ArrayType} {i : Int} {q : Nat × Sg} {c1 n1 : Nat} (h : zNewA w t i = some (q, c1, n1)) (ht : zAt t aty) (hd : decode D.2.1 pc = .ok (.newarray aty, 2)) (hcs : ce + c1 ≤ mc ∧ sl + n1 ≤ ms) (kk : JW kC (bC G A) A l D a Q mc ms q.2 (ce + c1) (sl + n1) (pc + 2) lv (pR (some q.1) :: st)) : JW kC (bC G A) A l D a Q mc ms w ce sl pc lv (pI i :: st) := by
  intro p e s m below meth c H locs ls X hr hlk hn hK hB hS hl
  unfold zNewA at h
  by_cases hi : 0 ≤ w32 i ∧ w32 i ≤ 1000000
  · rw [if_pos hi] at h
    cases h
    have hN := hB.2.2.2.1.1
    have hb : componentBytes (newarray.typeOf aty) ≤ 8 := by cases aty <;> decide
    refine va_newaK X.1 X.2.1 (X.2.2.2.2 _ ht.1) rfl hd rfl (n := jI i) (N := (w32 i).toNat) (fun z => by have := I_lt.mp (show jI i < jI 0 from z); rw [show w32 0 = 0 from rfl] at this; omega) (clamp_I i) ?_ hcs.1 hcs.2 (h := zN w) hN.symm fun H1 cA e1 z1 o1 hAr hNm => ?_
    · have h1 : (w32 i).toNat ≤ 1000000 := by omega
      calc (w32 i).toNat * componentBytes (newarray.typeOf aty) ≤ 1000000 * 8 := Nat.mul_le_mul h1 hb
        _ ≤ 536870912 := by decide
    · have z1 : H1.size = H.size + 1 := by rw [z1, hN]
      have o1 : ∀ q, q < H.size → H1[q]? = H[q]? := fun q hq => o1 q (by rw [hN]; exact hq)
      have hcA : cA = G.2.2.1 t ∧ ∀ j, defaultValue (newarray.typeOf aty) = eV (znew w (100 + t) (w32 i).toNat) t (zN w) j := by
        have e2 : zA (znew w (100 + t) (w32 i).toNat) (zN w) = fun _ => 0 := if_pos rfl
        obtain ⟨-, t1, t2, t3⟩ := ht
        rw [t3] at hNm ⊢
        rcases (show t = 1 ∨ t = 2 ∨ t = 3 ∨ t = 4 by omega) with rfl | rfl | rfl | rfl
        · exact ⟨Option.some.inj (hNm.symm.trans (hB.1.2 0 (G.2.2.1 1, .int) rfl).2), fun j => by unfold eV; rw [e2]; rfl⟩
        · exact ⟨Option.some.inj (hNm.symm.trans (hB.1.2 1 (G.2.2.1 2, .byte) rfl).2), fun j => by unfold eV; rw [e2]; rfl⟩
        · exact ⟨Option.some.inj (hNm.symm.trans (hB.1.2 2 (G.2.2.1 3, .boolean) rfl).2), fun j => by unfold eV; rw [e2]; rfl⟩
        · exact ⟨Option.some.inj (hNm.symm.trans (hB.1.2 3 (G.2.2.1 4, .long) rfl).2), fun j => by unfold eV; rw [e2]; rfl⟩
      have hB1 : bC G A (znew w (100 + t) (w32 i).toNat) s H1 := by
        refine bC_grow hB z1 o1 ⟨fun cj h1 h2 => ?_, fun t' h1 h2 h3 => ?_⟩ (by have := ht.2.1; omega)
        · have h1 : va_up (zT w) (zN w) (100 + t) (zN w) = cj + 1 := h1
          unfold va_up at h1
          rw [if_pos rfl] at h1
          have := h2.1
          omega
        · have h1 : va_up (zT w) (zN w) (100 + t) (zN w) = 100 + t' := h1
          unfold va_up at h1
          rw [if_pos rfl] at h1
          have : t' = t := by omega
          subst this
          have e3 : zL (znew w (100 + t') (w32 i).toNat) (zN w) = (w32 i).toNat := if_pos rfl
          refine aOb.of ?_
          rw [e1, e3, hcA.1]
          congr 2
          funext j
          exact hcA.2 j
      exact kk p e s m below meth c H1 locs ls X hr hlk hn hK hB1 (hS_grow hS z1 o1) hl
  · rw [if_neg hi] at h; cases h
end CNew
