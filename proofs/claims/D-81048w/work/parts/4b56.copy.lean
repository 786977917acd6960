/-! THE TWIN: rows are copied to the place w -/
/-- numbers come into arrays at the offset i of the place w -/
def wput (w i : Nat) : List (Nat × Int) → Mu → Mu
  | [], m => m
  | (k, v) :: l, m => wput w i l (ma m k (wid k * w + i) v)
theorem wput_o {w i : Nat} : ∀ (l : List (Nat × Int)) (m : Mu) (k : Nat), (∀ p ∈ l, p.1 ≠ k) → (wput w i l m).2 k = m.2 k := by
  intro l
  induction l with
  | nil => intro m k _; rfl
  | cons p l ih =>
    intro m k h
    obtain ⟨k', v⟩ := p
    show (wput w i l (ma m k' (wid k' * w + i) v)).2 k = m.2 k
    rw [ih _ k (fun p hp => h p (List.mem_cons_of_mem _ hp)), ma_o (fun e => h (k', v) (List.mem_cons_self ..) e.symm)]
theorem wput_j {w i : Nat} : ∀ (l : List (Nat × Int)) (m : Mu) (k j : Nat), j ≠ wid k * w + i → (wput w i l m).2 k j = m.2 k j := by
  intro l
  induction l with
  | nil => intro m k j _; rfl
  | cons p l ih =>
    intro m k j h
    obtain ⟨k', v⟩ := p
    show (wput w i l (ma m k' (wid k' * w + i) v)).2 k j = m.2 k j
    rw [ih _ k j h, ma_2]
    by_cases z : k = k'
    · rw [if_pos z, up_o (by rw [← z]; exact h), z]
    · rw [if_neg z]
theorem wput_v {w i : Nat} : ∀ (l : List (Nat × Int)) (m : Mu), (l.map Prod.fst).Nodup → ∀ p ∈ l, (wput w i l m).2 p.1 (wid p.1 * w + i) = p.2 := by
  intro l
  induction l with
  | nil => intro m _ p hp; cases hp
  | cons q l ih =>
    intro m hd p hp
    obtain ⟨k', v⟩ := q
    rw [List.map_cons, List.nodup_cons] at hd
    show (wput w i l (ma m k' (wid k' * w + i) v)).2 p.1 (wid p.1 * w + i) = p.2
    rcases List.mem_cons.mp hp with rfl | hp
    · rw [wput_o l _ k' (fun p' hp' e => hd.1 (List.mem_map.mpr ⟨p', hp', e⟩)), ma_s, if_pos rfl]
    · exact ih _ hd.2 p hp
theorem wput_1 {w i : Nat} : ∀ (l : List (Nat × Int)) (m : Mu), (wput w i l m).1 = m.1 := by
  intro l
  induction l with
  | nil => intro m; rfl
  | cons p l ih => intro m; obtain ⟨k', v⟩ := p; exact (ih _).trans rfl
theorem wput_f {w i : Nat} {T : List Nat} {m : Mu} {l : List (Nat × Int)} (hl : ∀ p ∈ l, p.1 ∈ T ∧ i < wid p.1) : mpl w T m (wput w i l m) := by
  refine ⟨wput_1 l m, fun k hk => wput_o l m k (fun p hp e => hk (by rw [← e]; exact (hl p hp).1)), fun k j hj => ?_⟩
  by_cases z : ∃ p ∈ l, p.1 = k
  · obtain ⟨p, hp, e⟩ := z
    have := (hl p hp).2
    rw [e] at this
    exact wput_j l m k j (by omega)
  · exact congrFun (wput_o l m k (fun p hp e => z ⟨p, hp, e⟩)) j
/-- a loop that copies: V k i comes to the offset i of the array k -/
theorem cp_loop {F : Nat → Int → Mu → Option Mu} {T ks : List Nat} {m : Mu} {w n : Nat} {V : Nat → Nat → Int} (hks : ks.Nodup) (hT : ∀ k ∈ ks, k ∈ T ∧ n ≤ wid k) (hs : ∀ f (i : Nat) t, i < n → mpl w T m t → F (f + 1) i t = F f ((i : Int) + 1) (wput w i (ks.map fun k => (k, V k i)) t)) (he : ∀ f t, mpl w T m t → F (f + 1) n t = some t) (hn : n < 90000) : ∃ m', F NN 0 m = some m' ∧ mpl w T m m' ∧ (∀ k ∈ ks, ∀ j, j < n → m'.2 k (wid k * w + j) = V k j) ∧ (∀ k, k ∉ ks → m'.2 k = m.2 k) ∧ ∀ k j, (j < wid k * w ∨ wid k * w + n ≤ j) → m'.2 k j = m.2 k j := by
  have key : ∀ (d f i : Nat) (t : Mu), i + d = n → d < f → mpl w T m t → (∀ k ∈ ks, ∀ j, j < i → t.2 k (wid k * w + j) = V k j) → (∀ k, k ∉ ks → t.2 k = m.2 k) → (∀ k j, (j < wid k * w ∨ wid k * w + n ≤ j) → t.2 k j = m.2 k j) → ∃ m', F f i t = some m' ∧ mpl w T m m' ∧ (∀ k ∈ ks, ∀ j, j < n → m'.2 k (wid k * w + j) = V k j) ∧ (∀ k, k ∉ ks → m'.2 k = m.2 k) ∧ ∀ k j, (j < wid k * w ∨ wid k * w + n ≤ j) → m'.2 k j = m.2 k j := by
    intro d
    induction d with
    | zero =>
      intro f i t hi hf hP hV ho hj
      obtain ⟨f, rfl⟩ : ∃ g, f = g + 1 := ⟨f - 1, by omega⟩
      rw [show i = n by omega]
      exact ⟨t, he f t hP, hP, fun k hk j hj => hV k hk j (by omega), ho, hj⟩
    | succ d ih =>
      intro f i t hi hf hP hV ho hj
      obtain ⟨f, rfl⟩ : ∃ g, f = g + 1 := ⟨f - 1, by omega⟩
      rw [hs f i t (by omega) hP]
      have hl : ∀ p ∈ ks.map (fun k => (k, V k i)), p.1 ∈ T ∧ i < wid p.1 := fun p hp => by
        obtain ⟨k, hk, rfl⟩ := List.mem_map.mp hp
        have := hT k hk
        exact ⟨this.1, by show i < wid k; omega⟩
      have hnd : ((ks.map fun k => (k, V k i)).map Prod.fst).Nodup := by
        rw [List.map_map]
        have : (Prod.fst ∘ fun k => (k, V k i)) = id := rfl
        rw [this, List.map_id]; exact hks
      refine ih f (i + 1) _ (by omega) (by omega) (mpl_tr hP (wput_f hl)) (fun k hk j hj' => ?_) (fun k hk => ?_) (fun k j hj' => ?_)
      · by_cases z : j = i
        · rw [z]
          exact wput_v (w := w) (i := i) _ t hnd (k, V k i) (List.mem_map.mpr ⟨k, hk, rfl⟩)
        · rw [wput_j _ _ _ _ (by omega)]; exact hV k hk j (by omega)
      · rw [wput_o _ _ _ (fun p hp e => ?_)]
        · exact ho k hk
        · obtain ⟨k', hk', rfl⟩ := List.mem_map.mp hp
          exact hk (by rw [← e]; exact hk')
      · by_cases z : j = wid k * w + i
        · exfalso; omega
        · rw [wput_j _ _ _ _ z]; exact hj k j hj'
  exact key n NN 0 m (by omega) (NN_gt (by omega)) mpl_rf (fun k _ j hj => by omega) (fun _ _ => rfl) (fun _ _ _ => rfl)
