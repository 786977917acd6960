/-! ENDORSE: the twin joins: a wording is built from rows of conditions -/
/-- the segments of the row A, B at the place w are l -/
def SGR (t : Mu) (w A B wd : Nat) (l : List (List Nd)) (c : Nat) : Prop := ∀ k, k < l.length → ∃ i j : Nat, t.2 A (wd * w + k) = (i : Int) ∧ t.2 B (wd * w + k) = (j : Int) ∧ i ≤ j ∧ j ≤ c ∧ l[k]? = some (sgP t w i j)
theorem SGR_k {t t' : Mu} {w A B wd c c' : Nat} {l : List (List Nd)} (h : SGR t w A B wd l c) (hA : ∀ k, k < l.length → t'.2 A (wd * w + k) = t.2 A (wd * w + k) ∧ t'.2 B (wd * w + k) = t.2 B (wd * w + k)) (hn : ∀ k, k < c → ndP t' w k = ndP t w k) (hc : c ≤ c') : SGR t' w A B wd l c' := fun k hk => by
  obtain ⟨i, j, h1, h2, h3, h4, h5⟩ := h k hk
  exact ⟨i, j, by rw [(hA k hk).1]; exact h1, by rw [(hA k hk).2]; exact h2, h3, by omega, by rw [sgP_k hn h4]; exact h5⟩
theorem SGR_a {t t' : Mu} {w A B wd c : Nat} {l : List (List Nd)} {ns : List Nd} (h : SGR t w A B wd l c) (hA : ∀ k, k < l.length → t'.2 A (wd * w + k) = t.2 A (wd * w + k) ∧ t'.2 B (wd * w + k) = t.2 B (wd * w + k)) (hn : ∀ k, k < c → ndP t' w k = ndP t w k) (h1 : t'.2 A (wd * w + l.length) = (c : Int)) (h2 : t'.2 B (wd * w + l.length) = ((c + ns.length : Nat) : Int)) (h3 : sgP t' w c (c + ns.length) = ns) : SGR t' w A B wd (l ++ [ns]) (c + ns.length) := fun k hk => by
  rw [List.length_append, List.length_singleton] at hk
  by_cases z : k < l.length
  · obtain ⟨i, j, q1, q2, q3, q4, q5⟩ := SGR_k h hA hn (Nat.le_add_right c ns.length) k z
    exact ⟨i, j, q1, q2, q3, q4, by rw [List.getElem?_append_left z]; exact q5⟩
  · have e : k = l.length := by omega
    subst e
    exact ⟨c, c + ns.length, h1, h2, by omega, Nat.le_refl _, by rw [List.getElem?_append_right (Nat.le_refl _), Nat.sub_self, h3]; rfl⟩
/-- x lies in a segment of the row -/
def CVG (t : Mu) (w A B wd n : Nat) (x : Nat) : Prop := ∃ k, k < n ∧ t.2 A (wd * w + k) ≤ (x : Int) ∧ (x : Int) < t.2 B (wd * w + k)
theorem CVG_k {t t' : Mu} {w A B wd n n' x : Nat} (h : CVG t w A B wd n x) (hA : ∀ k, k < n → t'.2 A (wd * w + k) = t.2 A (wd * w + k) ∧ t'.2 B (wd * w + k) = t.2 B (wd * w + k)) (hn : n ≤ n') : CVG t' w A B wd n' x := by
  obtain ⟨k, k1, k2, k3⟩ := h
  exact ⟨k, by omega, by rw [(hA k k1).1]; exact k2, by rw [(hA k k1).2]; exact k3⟩
/-- the place w is built of meanings, clauses, price rows -/
def BLT (t : Mu) (w : Nat) (ms : List (List Nd)) (cs : List (Int × List Nd)) (ps : List (List Nd)) (c : Nat) : Prop := (t.2 33 w = (c : Int) ∧ c = (ms.map List.length).sum + (cs.map (fun q => q.2.length)).sum + (ps.map List.length).sum) ∧ SGR t w 21 22 12 ms c ∧ (t.2 23 w = (cs.length : Int) ∧ ∀ k, k < cs.length → cs[k]?.map Prod.fst = some (t.2 24 (24 * w + k))) ∧ SGR t w 25 26 24 (cs.map Prod.snd) c ∧ SGR t w 30 31 24 ps c ∧ ∀ x, x < c → CVG t w 21 22 12 ms.length x ∨ CVG t w 25 26 24 cs.length x ∨ CVG t w 30 31 24 ps.length x
/-- a meaning more -/
theorem BLT_m {t t' : Mu} {w c : Nat} {ms : List (List Nd)} {cs : List (Int × List Nd)} {ps : List (List Nd)} {ns : List Nd} (h : BLT t w ms cs ps c) (h33 : t'.2 33 w = ((c + ns.length : Nat) : Int)) (hn : ∀ k, k < c → ndP t' w k = ndP t w k) (h3 : sgP t' w c (c + ns.length) = ns) (ho : ∀ k, k = 23 ∨ k = 24 ∨ k = 25 ∨ k = 26 ∨ k = 30 ∨ k = 31 → t'.2 k = t.2 k) (hA : ∀ k, k < ms.length → t'.2 21 (12 * w + k) = t.2 21 (12 * w + k) ∧ t'.2 22 (12 * w + k) = t.2 22 (12 * w + k)) (h1 : t'.2 21 (12 * w + ms.length) = (c : Int)) (h2 : t'.2 22 (12 * w + ms.length) = ((c + ns.length : Nat) : Int)) : BLT t' w (ms ++ [ns]) cs ps (c + ns.length) := by
  obtain ⟨⟨a1, a2⟩, a3, ⟨a4, a5⟩, a6, a7, a8⟩ := h
  refine ⟨⟨h33, ?_⟩, SGR_a a3 hA hn h1 h2 h3, ⟨by rw [ho 23 (by omega)]; exact a4, by rw [ho 24 (by omega)]; exact a5⟩, SGR_k a6 (fun k _ => by rw [ho 25 (by omega), ho 26 (by omega)]; exact ⟨rfl, rfl⟩) hn (by omega), SGR_k a7 (fun k _ => by rw [ho 30 (by omega), ho 31 (by omega)]; exact ⟨rfl, rfl⟩) hn (by omega), fun x hx => ?_⟩
  · rw [List.map_append, List.sum_append, List.map_singleton, List.sum_singleton]; omega
  · rw [List.length_append, List.length_singleton]
    by_cases z : x < c
    · rcases a8 x z with q | q | q
      · exact Or.inl (CVG_k q hA (by omega))
      · exact Or.inr (Or.inl (CVG_k q (fun k _ => by rw [ho 25 (by omega), ho 26 (by omega)]; exact ⟨rfl, rfl⟩) (Nat.le_refl _)))
      · exact Or.inr (Or.inr (CVG_k q (fun k _ => by rw [ho 30 (by omega), ho 31 (by omega)]; exact ⟨rfl, rfl⟩) (Nat.le_refl _)))
    · exact Or.inl ⟨ms.length, by omega, by rw [h1]; omega, by rw [h2]; omega⟩
/-- a price row more -/
theorem BLT_p {t t' : Mu} {w c : Nat} {ms : List (List Nd)} {cs : List (Int × List Nd)} {ps : List (List Nd)} {ns : List Nd} (h : BLT t w ms cs ps c) (h33 : t'.2 33 w = ((c + ns.length : Nat) : Int)) (hn : ∀ k, k < c → ndP t' w k = ndP t w k) (h3 : sgP t' w c (c + ns.length) = ns) (ho : ∀ k, k = 23 ∨ k = 24 ∨ k = 25 ∨ k = 26 ∨ k = 21 ∨ k = 22 → t'.2 k = t.2 k) (hA : ∀ k, k < ps.length → t'.2 30 (24 * w + k) = t.2 30 (24 * w + k) ∧ t'.2 31 (24 * w + k) = t.2 31 (24 * w + k)) (h1 : t'.2 30 (24 * w + ps.length) = (c : Int)) (h2 : t'.2 31 (24 * w + ps.length) = ((c + ns.length : Nat) : Int)) : BLT t' w ms cs (ps ++ [ns]) (c + ns.length) := by
  obtain ⟨⟨a1, a2⟩, a3, ⟨a4, a5⟩, a6, a7, a8⟩ := h
  refine ⟨⟨h33, ?_⟩, SGR_k a3 (fun k _ => by rw [ho 21 (by omega), ho 22 (by omega)]; exact ⟨rfl, rfl⟩) hn (by omega), ⟨by rw [ho 23 (by omega)]; exact a4, by rw [ho 24 (by omega)]; exact a5⟩, SGR_k a6 (fun k _ => by rw [ho 25 (by omega), ho 26 (by omega)]; exact ⟨rfl, rfl⟩) hn (by omega), SGR_a a7 hA hn h1 h2 h3, fun x hx => ?_⟩
  · rw [List.map_append, List.sum_append, List.map_singleton, List.sum_singleton]; omega
  · rw [List.length_append, List.length_singleton]
    by_cases z : x < c
    · rcases a8 x z with q | q | q
      · exact Or.inl (CVG_k q (fun k _ => by rw [ho 21 (by omega), ho 22 (by omega)]; exact ⟨rfl, rfl⟩) (Nat.le_refl _))
      · exact Or.inr (Or.inl (CVG_k q (fun k _ => by rw [ho 25 (by omega), ho 26 (by omega)]; exact ⟨rfl, rfl⟩) (Nat.le_refl _)))
      · exact Or.inr (Or.inr (CVG_k q hA (by omega)))
    · exact Or.inr (Or.inr ⟨ps.length, by omega, by rw [h1]; omega, by rw [h2]; omega⟩)
/-- a clause more -/
theorem BLT_c {t t' : Mu} {w c : Nat} {ms : List (List Nd)} {cs : List (Int × List Nd)} {ps : List (List Nd)} {ns : List Nd} {kd : Int} (h : BLT t w ms cs ps c) (h33 : t'.2 33 w = ((c + ns.length : Nat) : Int)) (hn : ∀ k, k < c → ndP t' w k = ndP t w k) (h3 : sgP t' w c (c + ns.length) = ns) (ho : ∀ k, k = 21 ∨ k = 22 ∨ k = 30 ∨ k = 31 → t'.2 k = t.2 k) (hA : ∀ k, k < cs.length → t'.2 25 (24 * w + k) = t.2 25 (24 * w + k) ∧ t'.2 26 (24 * w + k) = t.2 26 (24 * w + k)) (hK : ∀ k, k < cs.length → t'.2 24 (24 * w + k) = t.2 24 (24 * w + k)) (h1 : t'.2 25 (24 * w + cs.length) = (c : Int)) (h2 : t'.2 26 (24 * w + cs.length) = ((c + ns.length : Nat) : Int)) (h4 : t'.2 24 (24 * w + cs.length) = kd) (h23 : t'.2 23 w = ((cs.length + 1 : Nat) : Int)) : BLT t' w ms (cs ++ [(kd, ns)]) ps (c + ns.length) := by
  obtain ⟨⟨a1, a2⟩, a3, ⟨a4, a5⟩, a6, a7, a8⟩ := h
  have hl : (cs.map Prod.snd).length = cs.length := List.length_map _
  refine ⟨⟨h33, ?_⟩, SGR_k a3 (fun k _ => by rw [ho 21 (by omega), ho 22 (by omega)]; exact ⟨rfl, rfl⟩) hn (by omega), ⟨by rw [List.length_append, List.length_singleton]; exact h23, fun k hk => ?_⟩, ?_, SGR_k a7 (fun k _ => by rw [ho 30 (by omega), ho 31 (by omega)]; exact ⟨rfl, rfl⟩) hn (by omega), fun x hx => ?_⟩
  · rw [List.map_append, List.sum_append, List.map_singleton, List.sum_singleton]; dsimp only; omega
  · rw [List.length_append, List.length_singleton] at hk
    by_cases z : k < cs.length
    · rw [List.getElem?_append_left z, hK k z]; exact a5 k z
    · have e : k = cs.length := by omega
      subst e
      rw [List.getElem?_append_right (Nat.le_refl _), Nat.sub_self, h4]; rfl
  · rw [List.map_append, List.map_singleton]
    exact SGR_a a6 (fun k hk => hA k (by rw [hl] at hk; exact hk)) hn (by rw [hl]; exact h1) (by rw [hl]; exact h2) h3
  · rw [List.length_append, List.length_singleton]
    by_cases z : x < c
    · rcases a8 x z with q | q | q
      · exact Or.inl (CVG_k q (fun k _ => by rw [ho 21 (by omega), ho 22 (by omega)]; exact ⟨rfl, rfl⟩) (Nat.le_refl _))
      · exact Or.inr (Or.inl (CVG_k q hA (by omega)))
      · exact Or.inr (Or.inr (CVG_k q (fun k _ => by rw [ho 30 (by omega), ho 31 (by omega)]; exact ⟨rfl, rfl⟩) (Nat.le_refl _)))
    · exact Or.inr (Or.inl ⟨cs.length, by omega, by rw [h1]; omega, by rw [h2]; omega⟩)
