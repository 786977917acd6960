/-! THE READER: next -/
theorem bdU_z {α β : Type} {a : α} {k : α → Option (β × Nat × Nat)} : bdU (some (a, 0, 0)) k = k a := by
  show Option.map _ (k a) = k a
  cases k a with
  | none => rfl
  | some x => rfl
theorem wd_ok {i : Nat} (hi : i < 29) : (∀ c ∈ wdC i, chr c) ∧ 1 ≤ (wdC i).length ∧ (wdC i).length ≤ 8 := by
  have key : ∀ i : Fin 29, (wdC i.1).all (fun c => decide ((97 ≤ c ∧ c ≤ 122) ∨ (48 ≤ c ∧ c ≤ 57))) = true ∧ 1 ≤ (wdC i.1).length ∧ (wdC i.1).length ≤ 8 := by decide
  obtain ⟨h1, h2, h3⟩ := key ⟨i, hi⟩
  refine ⟨fun c hc => ?_, h2, h3⟩
  have h9 : (97 ≤ c ∧ c ≤ 122) ∨ (48 ≤ c ∧ c ≤ 57) := of_decide_eq_true (List.all_eq_true.mp h1 c hc)
  exact h9
theorem wd_inj {i j : Nat} (hi : i < 29) (hj : j < 29) (h : wdC i = wdC j) : i = j := by
  have key : ∀ i j : Fin 29, wdC i.1 = wdC j.1 → i = j := by decide
  have := key ⟨i, hi⟩ ⟨j, hj⟩ h
  exact congrArg Fin.val this
theorem enc_w {b : Nat} {cs : List Nat} (hb : b = 256 ∨ b = 128) (h : ∀ c ∈ cs, chr c) (hl : cs.length ≤ 8) : w64 ((enc b cs : Nat) : Int) = (enc b cs : Nat) := by
  have := enc_lt h hl
  rcases hb with rfl | rfl
  · exact w64_id (by omega) (by omega)
  · exact w64_id (by omega) (by omega)
theorem enc_eqI {b : Nat} {cs ds : List Nat} (hb : b = 256 ∨ b = 128) (h : ∀ c ∈ cs, chr c) (h' : ∀ c ∈ ds, chr c) : ((enc b cs : Nat) : Int) = (enc b ds : Nat) ↔ cs = ds :=
  ⟨fun e => enc_inj (b := b) (by omega) h h' (by omega), fun e => by rw [e]⟩
theorem c_wd {G : CG} {L : Ly} {t : Sg} {m : Mu} {r : Nat} {g : Nat → Int} (h : TX G L t m r) {cs : List Nat} (hc : ∀ c ∈ cs, chr c) (hl : cs.length ≤ 8) : ∃ b : Bool, f0_isWord G (some (L.1 3)) ((enc 256 cs : Nat) : Int) (rI t r g) = some (b2i b) ∧ (b = true ↔ ∃ i, i < 29 ∧ wdC i = cs) := by
  obtain ⟨⟨a1, a2, a3, a4⟩, ⟨b1, -⟩, ⟨c1, c2, c3, c4⟩⟩ := h
  have key := loop_ind (fun q (i : Nat) => f0_isWord_l2 G (some (L.1 3)) ((enc 256 cs : Nat) : Int) (rI t r g) q (i : Int)) (fun i => 29 - i) (fun i => i ≤ 29 ∧ ∀ j, j < i → wdC j ≠ cs) (fun _ x => (x = .inl () ∧ ∃ i, i < 29 ∧ wdC i = cs) ∨ (x = .inr () ∧ ¬ ∃ i, i < 29 ∧ wdC i = cs)) (by
    intro q i ⟨hi, hn⟩ ih
    show ok (f0_isWord_l2 G (some (L.1 3)) ((enc 256 cs : Nat) : Int) (rI t r g) (q + 1) (i : Int)) _
    unfold f0_isWord_l2
    refine ok_eq (gfR_v (show zT (rI t r g) (L.1 3) = 1 from b1) (show zR (rI t r g) (L.1 3) 0 = _ from c1)) (ok_eq (alen_e (show zT (rI t r g) (L.1 100) = 100 + 4 from c2)) ?_)
    rw [show zL (rI t r g) (L.1 100) = 29 from c3, w32_n (by omega), w32_n (by omega)]
    refine ok_ite (fun z => ok_some (Or.inr ⟨rfl, fun ⟨j, j1, j2⟩ => hn j (by omega) j2⟩)) (fun z => ?_)
    refine ok_eq (gfR_v (show zT (rI t r g) (L.1 3) = 1 from b1) (show zR (rI t r g) (L.1 3) 0 = _ from c1)) (ok_eq (alI_e i (show zT (rI t r g) (L.1 100) = 100 + 4 from c2) rfl (by show i < zL t _; omega) (by show zL t _ ≤ _; omega)) ?_)
    have wi := wd_ok (i := i) (by omega)
    rw [show zA (rI t r g) (L.1 100) i = (enc 256 (wdC i) : Nat) from (c4 i (by omega)).1, enc_w (Or.inl rfl) wi.1 wi.2.2, enc_w (Or.inl rfl) hc hl]
    refine ok_ite (fun z2 => ok_some (Or.inl ⟨rfl, i, by omega, (enc_eqI (Or.inl rfl) wi.1 hc).mp z2⟩)) (fun z2 => ?_)
    exact ih (i + 1) ⟨by omega, fun j hj => by
      by_cases y : j = i
      · rw [y]; exact fun e => z2 ((enc_eqI (Or.inl rfl) wi.1 hc).mpr e)
      · exact hn j (by omega)⟩ (by omega)) NN 0 ⟨by omega, fun j hj => by omega⟩ (NN_gt (by omega))
  obtain ⟨x, e, hx⟩ := key
  have e : f0_isWord_l2 G (some (L.1 3)) ((enc 256 cs : Nat) : Int) (rI t r g) NN 0 = some x := e
  unfold f0_isWord
  rw [e, Option.bind_some]
  rcases hx with ⟨rfl, hx⟩ | ⟨rfl, hx⟩
  · exact ⟨true, rfl, ⟨fun _ => hx, fun _ => rfl⟩⟩
  · exact ⟨false, rfl, ⟨fun z => (by cases z), fun z => absurd z hx⟩⟩
theorem m_wd {A : Nat → Nat → Int} {s : Nat → Int} {cs : List Nat} (hA : ∀ i : Nat, i < 29 → A 0 i = (enc 128 (wdC i) : Nat)) (hc : ∀ c ∈ cs, chr c) (hl : cs.length ≤ 8) (h4 : s 4 = 1) (h6 : s 6 = (enc 128 cs : Nat)) : (∃ i, i < 29 ∧ wdC i = cs ∧ m5_nextName_l96 NN 0 (s, A) = some (va_up (va_up s 4 4) 7 (i : Int), A)) ∨ ((¬ ∃ i, i < 29 ∧ wdC i = cs) ∧ m5_nextName_l96 NN 0 (s, A) = some (s, A)) := by
  obtain ⟨N, hN⟩ : ∃ N, NN = N + 40 := ⟨NN - 40, by have := NN_ge; omega⟩
  have key : ∀ d i : Nat, i + d = 29 → (∀ j, j < i → wdC j ≠ cs) → (∃ k, k < 29 ∧ wdC k = cs ∧ m5_nextName_l96 (N + 11 + d) (i : Int) (s, A) = some (va_up (va_up s 4 4) 7 (k : Int), A)) ∨ ((¬ ∃ k, k < 29 ∧ wdC k = cs) ∧ m5_nextName_l96 (N + 11 + d) (i : Int) (s, A) = some (s, A)) := by
    intro d
    induction d with
    | zero =>
      intro i hi hn
      right
      refine ⟨fun ⟨j, j1, j2⟩ => hn j (by omega) j2, ?_⟩
      unfold m5_nextName_l96
      rw [w32_n (by omega), if_pos (by omega)]
    | succ d ih =>
      intro i hi hn
      have wi := wd_ok (i := i) (by omega)
      rw [show N + 11 + (d + 1) = (N + 11 + d) + 1 by omega]
      unfold m5_nextName_l96
      show (∃ k, k < 29 ∧ wdC k = cs ∧ (if 29 ≤ w32 (i : Int) then _ else if w32 (s 4) = 1 then _ else _) = _) ∨ (_ ∧ (if 29 ≤ w32 (i : Int) then _ else if w32 (s 4) = 1 then _ else _) = _)
      rw [w32_n (by omega), if_neg (by omega), h4, if_pos (by decide), mald_e i rfl (by omega) (by omega), Option.bind_some]
      show (∃ k, k < 29 ∧ wdC k = cs ∧ (if w64 (A 0 i) = w64 (s 6) then _ else _) = _) ∨ (_ ∧ (if w64 (A 0 i) = w64 (s 6) then _ else _) = _)
      rw [hA i (by omega), h6, enc_w (Or.inr rfl) wi.1 wi.2.2, enc_w (Or.inr rfl) hc hl]
      by_cases z : ((enc 128 (wdC i) : Nat) : Int) = (enc 128 cs : Nat)
      · left
        refine ⟨i, by omega, (enc_eqI (Or.inr rfl) wi.1 hc).mp z, ?_⟩
        rw [if_pos z, Option.bind_some, ms_e, Option.bind_some, ms_e]
        obtain ⟨M, hM⟩ : ∃ M, N + 11 + d = M + 1 := ⟨N + 10 + d, by omega⟩
        rw [hM]
        unfold m5_nextName_l96
        by_cases y : 29 ≤ w32 ((i : Int) + 1)
        · rw [if_pos y]
        · rw [if_neg y]
          show (if w32 (va_up (va_up s 4 4) 7 (i : Int) 4) = 1 then _ else _) = _
          rw [up_o (by decide), up_s, if_neg (by decide)]
      · rw [if_neg z]
        exact ih (i + 1) (by omega) (fun j hj => by
          by_cases y : j = i
          · rw [y]; exact fun e => z ((enc_eqI (Or.inr rfl) wi.1 hc).mpr e)
          · exact hn j (by omega))
  have := key 29 0 (by omega) (fun j hj => by omega)
  rw [show N + 11 + 29 = NN by omega] at this
  exact this
/-- how next ends -/
def NXT (t : Sg) (r : Nat) (m : Mu) (g : Nat → Int) (a : ((Nat ⊕ Unit) × Sg) × Nat × Nat) (b : Mu) : Prop := b.2 = m.2 ∧ (∀ k, (k < 3 ∨ 7 < k) → b.1 k = m.1 k) ∧ m.1 3 ≤ b.1 5 ∧ b.1 5 ≤ m.1 2 ∧ ((∃ g', a = ((.inr (), rI t r g'), 0, 0) ∧ (∀ k, (k < 280 ∨ 285 < k) → g' k = g k) ∧ TKR g' b.1 (m.1 2)) ∨ (∃ g' u', a = ((.inl (zN t), u'), 1, 8) ∧ (∀ k, (k < 280 ∨ 285 < k) → g' k = g k) ∧ FLT (rI t r g') (zN t) 1 (b.1 5) u' ∧ b.1 4 = 5 ∧ b.1 5 < m.1 2))
theorem xt_tel {α β : Type} {e : Nat} {u : Sg} {c n : Nat} {K : (Nat ⊕ α) × Sg → α → Option (((Nat ⊕ β) × Sg) × Nat × Nat)} (h : zT u e = 9) : (bdU (some ((.inl e, u), c, n)) fun q : (Nat ⊕ α) × Sg => tel q.1 (fun e' => (xth e' q.2 : Option (((Nat ⊕ β) × Sg) × Nat × Nat))) fun x => K q x) = some ((.inl e, u), c, n) := by
  unfold bdU tel xth
  rw [Option.bind_some]
  show Option.map _ (if zT u e = 9 then _ else _) = _
  rw [if_pos h]
  simp
theorem lex_sign {G : CG} {L : Ly} {t : Sg} {m : Mu} {r : Nat} (h : TX G L t m r) (hG : G0 G ≤ zN t) (hr : r < zN t) {g s : Nat → Int} {q c : Int} (hq : 0 ≤ q) (hq2 : q < m.1 2) (hc : oc m q = c) (hcL : ¬ isL c) (hcD : ¬ isD c) (s2 : s 2 = m.1 2) (g80 : g 280 = q) (g82 : g 282 = q) (s3 : s 3 = q) (s5 : s 5 = q) : sim (f7_sign G (some r) c (rI t r g)) (m5_nextSign c (s, m.2)) (fun a b => b.2 = m.2 ∧ (∀ k, k ≠ 3 → k ≠ 4 → k ≠ 7 → b.1 k = s k) ∧ ((∃ g', a = ((.inr (), rI t r g'), 0, 0) ∧ (∀ k, k ≠ 280 → k ≠ 281 → k ≠ 285 → g' k = g k) ∧ g' 280 = b.1 3 ∧ q < b.1 3 ∧ b.1 3 ≤ m.1 2 ∧ g' 281 = 3 ∧ b.1 4 = 3 ∧ ∃ k : Nat, k < 10 ∧ b.1 7 = (k : Int) ∧ g' 285 = sgC k) ∨ (∃ g' u', a = ((.inl (zN t), u'), 1, 8) ∧ (∀ k, k ≠ 280 → k ≠ 281 → k ≠ 285 → g' k = g k) ∧ FLT (rI t r g') (zN t) 1 q u' ∧ b.1 4 = 5))) := by
  have b34 := h.2.1.2.2
  have e8 : ∀ g', zT (rI t r g') r = 8 := fun _ => h.1.1
  have cb := oc_bd m q
  rw [hc] at cb
  have wc : w32 c = c := w32_id (by omega) (by omega)
  have nb := oc_bd m (q + 1)
  have w5 := oc_w m (q + 1)
  obtain ⟨d, hd⟩ : ∃ d, oc m (q + 1) = d := ⟨_, rfl⟩
  rw [hd] at nb w5
  have hin : 0 ≤ d → q + 1 < m.1 2 := fun z => oc_in (by rw [hd]; exact z)
  have mo : m5_octet (q + 1) (va_up (va_up s 4 3) 3 (q + 1), m.2) = some d := by
    have e2 : (va_up (va_up s 4 3) 3 (q + 1)) 2 = m.1 2 := by rw [up_o (by decide), up_o (by decide)]; exact s2
    rw [m_oct (m := (va_up (va_up s 4 3) 3 (q + 1), m.2)) (by show 0 ≤ (va_up (va_up s 4 3) 3 (q + 1)) 2 ∧ (va_up (va_up s 4 3) 3 (q + 1)) 2 ≤ 4000; rw [e2]; exact ⟨b34.1, b34.2.1⟩) (by omega) (by omega), oc_cg (m := m) (m' := (va_up (va_up s 4 3) 3 (q + 1), m.2)) e2 rfl, hd]
  -- the class: behind the choice of one or two bytes
  have fin : ∀ (two : Int) (k : Nat) (code : Int), (two = 0 ∨ two = 1) → code = sgC k → code = (if two = 0 then c else 256 * c + d) → (c = 59 ∨ c = 44 ∨ c = 40 ∨ c = 41 ∨ c = 61 ∨ c = 60 ∨ c = 62) → f7_sign_b46 G (some r) c d two (rI t r g) = some ((.inr (), rI t r (va_up (va_up (va_up g 281 3) 285 code) 280 (q + 1 + two))), 0, 0) := by
    intro two k code h2 hcode hcd hsg
    have b126 : f7_sign_b126 G (some r) two (rI t r (va_up (va_up g 281 3) 285 code)) = some ((.inr (), rI t r (va_up (va_up (va_up g 281 3) 285 code) 280 (q + 1 + two))), 0, 0) := by
      unfold f7_sign_b126
      rw [gf8 h.1.1, Option.bind_some, up_o (by decide), up_o (by decide), g80]
      rcases h2 with rfl | rfl
      · rw [if_pos (by decide), pf8 h.1.1 h.1.2.1, Option.bind_some, Int.add_zero]
      · rw [if_neg (by decide), pf8 h.1.1 h.1.2.1, Option.bind_some, show q + 1 + 1 = q + 2 by omega]
    have b68 : f7_sign_b68 G (some r) c two (some r) code (rI t r (va_up g 281 3)) = some ((.inr (), rI t r (va_up (va_up (va_up g 281 3) 285 code) 280 (q + 1 + two))), 0, 0) := by
      unfold f7_sign_b68
      rw [pf8 h.1.1 h.1.2.1, Option.bind_some, wc, b126]
      rcases hsg with z | z | z | z | z | z | z <;> subst z <;> rfl
    unfold f7_sign_b46
    rw [pf8 h.1.1 h.1.2.1, Option.bind_some]
    rcases h2 with rfl | rfl
    · rw [if_pos (by decide)]
      rw [if_pos rfl] at hcd
      subst hcd; exact b68
    · rw [if_neg (by decide)]
      rw [if_neg (by decide)] at hcd
      subst hcd; exact b68
  have bad : (c ≠ 59 ∧ c ≠ 44 ∧ c ≠ 40 ∧ c ≠ 41 ∧ c ≠ 61 ∧ c ≠ 60 ∧ c ≠ 62) → ∃ g' u', f7_sign_b46 G (some r) c d 0 (rI t r g) = some ((.inl (zN t), u'), 1, 8) ∧ (∀ k, k ≠ 280 → k ≠ 281 → k ≠ 285 → g' k = g k) ∧ FLT (rI t r g') (zN t) 1 q u' := by
    intro hn
    obtain ⟨u', e, hf⟩ := c_flt (α := Unit) (G := G) (u := rI t r (va_up (va_up g 281 3) 285 c)) (r := r) (K := 1) (P := q) hG hr h.1.1 (by rw [rI_I, up_o (by decide), up_o (by decide)]; exact g82)
    refine ⟨va_up (va_up g 281 3) 285 c, u', ?_, fun k k1 k2 k3 => by rw [up_o k3, up_o k2], hf⟩
    unfold f7_sign_b46
    rw [pf8 h.1.1 h.1.2.1, Option.bind_some, if_pos (by decide)]
    unfold f7_sign_b68
    rw [pf8 h.1.1 h.1.2.1, Option.bind_some, wc, if_neg hn.1, if_neg hn.2.1, if_neg hn.2.2.1, if_neg hn.2.2.2.1, if_neg hn.2.2.2.2.1, if_neg hn.2.2.2.2.2.1, if_neg hn.2.2.2.2.2.2]
    exact e
  unfold f7_sign m5_nextSign
  refine sim_L (gf8 h.1.1) ?_
  rw [g80]
  refine sim_L (ztg_e (e8 g)) (sim_L (c_oct h (by omega) (by omega)) (sim_S (sim_S ?_)))
  rw [hd, ms_e, ms_e]
  dsimp only
  rw [up_o (show 3 ≠ 4 by decide), s3, up_s]
  refine sim_R mo ?_
  rw [w5, wc]
  unfold f7_sign_b41 f7_sign_b29 f7_sign_b41 f7_sign_b45
  rw [wc, w5]
  have frS : ∀ (v3 v7 : Int), ∀ k, k ≠ 3 → k ≠ 4 → k ≠ 7 → (va_up (va_up (va_up (va_up s 4 3) 3 (q + 1)) 7 v7) 3 v3) k = s k := fun v3 v7 k k1 k2 k3 => by rw [up_o k1, up_o k3, up_o k1, up_o k2]
  have frS1 : ∀ (v7 : Int), ∀ k, k ≠ 3 → k ≠ 4 → k ≠ 7 → (va_up (va_up (va_up s 4 3) 3 (q + 1)) 7 v7) k = s k := fun v7 k k1 k2 k3 => by rw [up_o k3, up_o k1, up_o k2]
  have frG : ∀ (a b : Int), ∀ k, k ≠ 280 → k ≠ 281 → k ≠ 285 → (va_up (va_up (va_up g 281 3) 285 a) 280 b) k = g k := fun a b k k1 k2 k3 => by rw [up_o k1, up_o k3, up_o k2]
  -- one byte, kept as k
  have one : ∀ k : Nat, k < 10 → c = sgC k → (c = 59 ∨ c = 44 ∨ c = 40 ∨ c = 41 ∨ c = 61 ∨ c = 60 ∨ c = 62) → ∀ v : Int, (v = 0 ∨ v = 1) → v = 0 → sim (f7_sign_b46 G (some r) c d 0 (rI t r g)) (some ((va_up (va_up (va_up s 4 3) 3 (q + 1)) 7 (k : Int), m.2) : Mu)) (fun a b => b.2 = m.2 ∧ (∀ k, k ≠ 3 → k ≠ 4 → k ≠ 7 → b.1 k = s k) ∧ ((∃ g', a = ((.inr (), rI t r g'), 0, 0) ∧ (∀ k, k ≠ 280 → k ≠ 281 → k ≠ 285 → g' k = g k) ∧ g' 280 = b.1 3 ∧ q < b.1 3 ∧ b.1 3 ≤ m.1 2 ∧ g' 281 = 3 ∧ b.1 4 = 3 ∧ ∃ k : Nat, k < 10 ∧ b.1 7 = (k : Int) ∧ g' 285 = sgC k) ∨ (∃ g' u', a = ((.inl (zN t), u'), 1, 8) ∧ (∀ k, k ≠ 280 → k ≠ 281 → k ≠ 285 → g' k = g k) ∧ FLT (rI t r g') (zN t) 1 q u' ∧ b.1 4 = 5))) := by
    intro k hk hck hsg v _ _
    rw [fin 0 k c (Or.inl rfl) hck (by rw [if_pos rfl]) hsg]
    refine sim_some ⟨rfl, frS1 _, Or.inl ⟨_, rfl, frG _ _, ?_, ?_, ?_, ?_, ?_, k, hk, ?_, ?_⟩⟩
    · rw [up_s]; show _ = (va_up (va_up (va_up s 4 3) 3 (q + 1)) 7 (k : Int)) 3; rw [up_o (by decide), up_s, Int.add_zero]
    · show q < (va_up (va_up (va_up s 4 3) 3 (q + 1)) 7 (k : Int)) 3; rw [up_o (by decide), up_s]; omega
    · show (va_up (va_up (va_up s 4 3) 3 (q + 1)) 7 (k : Int)) 3 ≤ _; rw [up_o (by decide), up_s]; omega
    · rw [up_o (by decide), up_o (by decide), up_s]
    · show (va_up (va_up (va_up s 4 3) 3 (q + 1)) 7 (k : Int)) 4 = 3; rw [up_o (by decide), up_o (by decide), up_s]
    · exact up_s (f := va_up (va_up s 4 3) 3 (q + 1)) (k := 7) (v := (k : Int))
    · rw [up_o (by decide), up_s]; exact hck
  -- with a place of the twin that is set once more
  have two : ∀ (k : Nat) (w : Int) (code : Int), k < 10 → (w = 0 ∨ w = 1) → code = sgC k → code = (if w = 0 then c else 256 * c + d) → (c = 60 ∨ c = 62) → (w = 1 → 0 ≤ d) → sim (f7_sign_b46 G (some r) c d w (rI t r g)) (some ((va_up (va_up (va_up (va_up s 4 3) 3 (q + 1)) 7 (k : Int)) 3 (q + 1 + w), m.2) : Mu)) (fun a b => b.2 = m.2 ∧ (∀ k, k ≠ 3 → k ≠ 4 → k ≠ 7 → b.1 k = s k) ∧ ((∃ g', a = ((.inr (), rI t r g'), 0, 0) ∧ (∀ k, k ≠ 280 → k ≠ 281 → k ≠ 285 → g' k = g k) ∧ g' 280 = b.1 3 ∧ q < b.1 3 ∧ b.1 3 ≤ m.1 2 ∧ g' 281 = 3 ∧ b.1 4 = 3 ∧ ∃ k : Nat, k < 10 ∧ b.1 7 = (k : Int) ∧ g' 285 = sgC k) ∨ (∃ g' u', a = ((.inl (zN t), u'), 1, 8) ∧ (∀ k, k ≠ 280 → k ≠ 281 → k ≠ 285 → g' k = g k) ∧ FLT (rI t r g') (zN t) 1 q u' ∧ b.1 4 = 5))) := by
    intro k w code hk hw hck hcd hsg hd0
    rw [fin w k code hw hck hcd (by omega)]
    have hle : q + 1 + w ≤ m.1 2 := by
      rcases hw with z | z
      · omega
      · have := hin (hd0 z); omega
    refine sim_some ⟨rfl, frS _ _, Or.inl ⟨_, rfl, frG _ _, ?_, ?_, ?_, ?_, ?_, k, hk, ?_, ?_⟩⟩
    · rw [up_s]; show _ = (va_up (va_up (va_up (va_up s 4 3) 3 (q + 1)) 7 (k : Int)) 3 (q + 1 + w)) 3; rw [up_s]
    · show q < (va_up (va_up (va_up (va_up s 4 3) 3 (q + 1)) 7 (k : Int)) 3 (q + 1 + w)) 3; rw [up_s]; omega
    · show (va_up (va_up (va_up (va_up s 4 3) 3 (q + 1)) 7 (k : Int)) 3 (q + 1 + w)) 3 ≤ _; rw [up_s]; exact hle
    · rw [up_o (by decide), up_o (by decide), up_s]
    · show (va_up (va_up (va_up (va_up s 4 3) 3 (q + 1)) 7 (k : Int)) 3 (q + 1 + w)) 4 = 3; rw [up_o (by decide), up_o (by decide), up_o (by decide), up_s]
    · show (va_up (va_up (va_up (va_up s 4 3) 3 (q + 1)) 7 (k : Int)) 3 (q + 1 + w)) 7 = _; rw [up_o (by decide), up_s]
    · rw [up_o (by decide), up_s]; exact hck
  have b52 : ∀ k : Int, (k = 1 ∨ k = 3 ∨ k = 5) → m5_nextSign_b52 k (va_up (va_up s 4 3) 3 (q + 1), m.2) = some (va_up (va_up (va_up (va_up s 4 3) 3 (q + 1)) 7 k) 3 (q + 1 + if k = 1 then 0 else 1), m.2) := by
    intro k hk
    unfold m5_nextSign_b52 m5_nextSign_b73
    rw [Option.bind_some, ms_e]
    show (if w32 (va_up (va_up (va_up s 4 3) 3 (q + 1)) 7 k 7) = 1 then _ else _) = _
    rw [up_s]
    rcases hk with rfl | rfl | rfl
    · rw [if_pos (by decide), if_pos rfl, Option.bind_some, ms_e]
      show some (va_up _ 3 ((va_up (va_up (va_up s 4 3) 3 (q + 1)) 7 1) 3 + 0), m.2) = _
      rw [up_o (show 3 ≠ 7 by decide), up_s]
    · rw [if_neg (by decide), if_neg (by decide), Option.bind_some, ms_e]
      show some (va_up _ 3 ((va_up (va_up (va_up s 4 3) 3 (q + 1)) 7 3) 3 + 1), m.2) = _
      rw [up_o (show 3 ≠ 7 by decide), up_s]
    · rw [if_neg (by decide), if_neg (by decide), Option.bind_some, ms_e]
      show some (va_up _ 3 ((va_up (va_up (va_up s 4 3) 3 (q + 1)) 7 5) 3 + 1), m.2) = _
      rw [up_o (show 3 ≠ 7 by decide), up_s]
  have b98 : ∀ k : Int, (k = 2 ∨ k = 4) → m5_nextSign_b98 k (va_up (va_up s 4 3) 3 (q + 1), m.2) = some (va_up (va_up (va_up (va_up s 4 3) 3 (q + 1)) 7 k) 3 (q + 1 + if k = 2 then 0 else 1), m.2) := by
    intro k hk
    unfold m5_nextSign_b98 m5_nextSign_b119
    rw [Option.bind_some, ms_e]
    show (if w32 (va_up (va_up (va_up s 4 3) 3 (q + 1)) 7 k 7) = 2 then _ else _) = _
    rw [up_s]
    rcases hk with rfl | rfl
    · rw [if_pos (by decide), if_pos rfl, Option.bind_some, ms_e]
      show some (va_up _ 3 ((va_up (va_up (va_up s 4 3) 3 (q + 1)) 7 2) 3 + 0), m.2) = _
      rw [up_o (show 3 ≠ 7 by decide), up_s]
    · rw [if_neg (by decide), if_neg (by decide), Option.bind_some, ms_e]
      show some (va_up _ 3 ((va_up (va_up (va_up s 4 3) 3 (q + 1)) 7 4) 3 + 1), m.2) = _
      rw [up_o (show 3 ≠ 7 by decide), up_s]
  by_cases c60 : c = 60
  · subst c60
    by_cases d61 : d = 61
    · subst d61
      rw [if_pos rfl, if_pos rfl, if_pos rfl, if_pos rfl, b52 3 (by omega), if_neg (by decide)]
      exact two 3 1 15421 (by omega) (Or.inr rfl) rfl rfl (Or.inl rfl) (fun _ => by omega)
    · rw [if_neg d61, if_pos rfl, if_pos rfl, if_neg d61]
      by_cases d62 : d = 62
      · subst d62
        rw [if_pos rfl, if_pos rfl, b52 5 (by omega), if_neg (by decide)]
        exact two 5 1 15422 (by omega) (Or.inr rfl) rfl rfl (Or.inl rfl) (fun _ => by omega)
      · rw [if_neg d62, if_neg d62, b52 1 (by omega), if_pos rfl]
        exact two 1 0 60 (by omega) (Or.inl rfl) rfl rfl (Or.inl rfl) (fun z => by omega)
  · by_cases c62 : c = 62
    · subst c62
      by_cases d61 : d = 61
      · subst d61
        rw [if_pos rfl, if_neg (by decide), if_pos rfl, if_neg (by decide), if_pos rfl, if_pos rfl, b98 4 (by omega), if_neg (by decide)]
        exact two 4 1 15933 (by omega) (Or.inr rfl) rfl rfl (Or.inr rfl) (fun _ => by omega)
      · rw [if_neg d61, if_neg (by decide), if_neg (by decide), if_pos rfl, if_neg d61, b98 2 (by omega), if_pos rfl]
        exact two 2 0 62 (by omega) (Or.inl rfl) rfl rfl (Or.inr rfl) (fun z => by omega)
    · have cls : (if d = 61 then if c = 60 then f7_sign_b46 G (some r) c d 1 (rI t r g) else if c = 62 then f7_sign_b46 G (some r) c d 1 (rI t r g) else (if c = 60 then (if d = 62 then f7_sign_b46 G (some r) c d 1 (rI t r g) else f7_sign_b46 G (some r) c d 0 (rI t r g)) else f7_sign_b46 G (some r) c d 0 (rI t r g)) else (if c = 60 then (if d = 62 then f7_sign_b46 G (some r) c d 1 (rI t r g) else f7_sign_b46 G (some r) c d 0 (rI t r g)) else f7_sign_b46 G (some r) c d 0 (rI t r g))) = f7_sign_b46 G (some r) c d 0 (rI t r g) := by
        by_cases z : d = 61
        · rw [if_pos z, if_neg c60, if_neg c62, if_neg c60]
        · rw [if_neg z, if_neg c60]
      rw [cls, if_neg c60, if_neg c62]
      by_cases c61 : c = 61
      · rw [if_pos c61, Option.bind_some, ms_e]
        exact one 0 (by omega) c61 (by omega) 0 (Or.inl rfl) rfl
      · rw [if_neg c61]
        by_cases c59 : c = 59
        · rw [if_pos c59, Option.bind_some, ms_e]
          exact one 6 (by omega) c59 (by omega) 0 (Or.inl rfl) rfl
        · rw [if_neg c59]
          by_cases c44 : c = 44
          · rw [if_pos c44, Option.bind_some, ms_e]
            exact one 7 (by omega) c44 (by omega) 0 (Or.inl rfl) rfl
          · rw [if_neg c44]
            by_cases c40 : c = 40
            · rw [if_pos c40, Option.bind_some, ms_e]
              exact one 8 (by omega) c40 (by omega) 0 (Or.inl rfl) rfl
            · rw [if_neg c40]
              by_cases c41 : c = 41
              · rw [if_pos c41, Option.bind_some, ms_e]
                exact one 9 (by omega) c41 (by omega) 0 (Or.inl rfl) rfl
              · rw [if_neg c41, Option.bind_some, ms_e]
                obtain ⟨g', u', e, fr, hf⟩ := bad ⟨c59, c44, c40, c41, c61, c60, c62⟩
                rw [e]
                refine sim_some ⟨rfl, fun k k1 k2 k3 => ?_, Or.inr ⟨g', u', rfl, fr, hf, ?_⟩⟩
                · show (va_up (va_up (va_up s 4 3) 3 (q + 1)) 4 5) k = s k
                  rw [up_o k2, up_o k1, up_o k2]
                · show (va_up (va_up (va_up s 4 3) 3 (q + 1)) 4 5) 4 = 5
                  rw [up_s]
