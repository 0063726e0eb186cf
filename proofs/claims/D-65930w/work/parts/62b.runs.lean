/-! STAGE 3, 2: free places as runs in order: plain law -/
def rl_ok : Nat → List (Nat × Nat) → Prop
  | _, [] => True
  | lo, x :: r => lo ≤ x.1 ∧ x.1 < x.2 ∧ rl_ok (x.2 + 1) r
def rl_in : List (Nat × Nat) → Nat → Prop
  | [], _ => False
  | x :: r, p => (x.1 ≤ p ∧ p < x.2) ∨ rl_in r p
theorem rl_ok.lo {lo lo' : Nat} {l : List (Nat × Nat)} (h : rl_ok lo l) (e : lo' ≤ lo) : rl_ok lo' l := by
  cases l with
  | nil => trivial
  | cons x r => exact ⟨Nat.le_trans e h.1, h.2⟩
theorem rl_in.ge {lo p : Nat} {l : List (Nat × Nat)} (h : rl_ok lo l) (q : rl_in l p) : lo ≤ p := by
  induction l generalizing lo with
  | nil => exact q.elim
  | cons x r ih =>
    obtain ⟨h1, h2, h3⟩ := h
    rcases q with q | q
    · omega
    · have := ih h3 q
      omega
def rl_take (p n : Nat) : List (Nat × Nat) → List (Nat × Nat)
  | [] => []
  | x :: r => if x.2 ≤ p then x :: rl_take p n r else if x.1 + n = x.2 then r else (x.1 + n, x.2) :: r
def rl_give (p n : Nat) : List (Nat × Nat) → List (Nat × Nat)
  | [] => [(p, p + n)]
  | x :: r => if x.2 < p then x :: rl_give p n r else if x.2 = p then (match r with
      | [] => [(x.1, p + n)]
      | y :: s => if y.1 = p + n then (x.1, y.2) :: s else (x.1, p + n) :: y :: s)
    else if x.1 = p + n then (p, x.2) :: r else (p, p + n) :: x :: r
/-- the runs that end at a place or before it -/
def rl_of (p : Nat) : List (Nat × Nat) → Nat
  | [] => 0
  | x :: r => if x.2 ≤ p then rl_of p r + 1 else 0
theorem rl_take_ok {p n : Nat} (hn : 0 < n) : ∀ {lo : Nat} {l : List (Nat × Nat)} {b : Nat}, rl_ok lo l → (p, b) ∈ l → p + n ≤ b → rl_ok lo (rl_take p n l) ∧ ∀ q, rl_in (rl_take p n l) q ↔ rl_in l q ∧ ¬ (p ≤ q ∧ q < p + n)
  | _, [], _, _, m, _ => by cases m
  | lo, x :: r, b, h, m, hb => by
    obtain ⟨h1, h2, h3⟩ := h
    unfold rl_take
    by_cases c : x.2 ≤ p
    · rw [if_pos c]
      have m' : (p, b) ∈ r := by
        rcases List.mem_cons.mp m with e | e
        · rw [← e] at h2 c; simp at h2 c; omega
        · exact e
      obtain ⟨k1, k2⟩ := rl_take_ok hn h3 m' hb
      refine ⟨⟨h1, h2, k1⟩, fun q => ?_⟩
      simp only [rl_in, k2]
      constructor
      · rintro (z | z)
        · exact ⟨Or.inl z, by omega⟩
        · exact ⟨Or.inr z.1, z.2⟩
      · rintro ⟨z | z, y⟩
        · exact Or.inl z
        · exact Or.inr ⟨z, y⟩
    · rw [if_neg c]
      have e : x = (p, b) := by
        rcases List.mem_cons.mp m with e | e
        · exact e.symm
        · have : rl_in r p := by
            clear h1 h2 c m
            induction r generalizing x with
            | nil => cases e
            | cons y s ih =>
              rcases List.mem_cons.mp e with e | e
              · rw [← e]; left; simp; omega
              · exact Or.inr (ih y h3.2.2 e)
          have := rl_in.ge h3 this
          omega
      subst e
      simp only at h1 h2 h3 c ⊢
      by_cases d : p + n = b
      · rw [if_pos d]
        refine ⟨h3.lo (by omega), fun q => ?_⟩
        simp only [rl_in]
        constructor
        · intro z
          have := rl_in.ge h3 z
          exact ⟨Or.inr z, by omega⟩
        · rintro ⟨z | z, y⟩
          · omega
          · exact z
      · rw [if_neg d]
        refine ⟨⟨by simp; omega, by simp; omega, h3⟩, fun q => ?_⟩
        simp only [rl_in]
        constructor
        · rintro (z | z)
          · exact ⟨Or.inl (by omega), by omega⟩
          · have := rl_in.ge h3 z
            exact ⟨Or.inr z, by omega⟩
        · rintro ⟨z | z, y⟩
          · exact Or.inl (by omega)
          · exact Or.inr z
theorem rl_give_ok {p n : Nat} (hn : 0 < n) : ∀ {lo : Nat} {l : List (Nat × Nat)}, rl_ok lo l → lo ≤ p → (∀ q, rl_in l q → ¬ (p ≤ q ∧ q < p + n)) → rl_ok lo (rl_give p n l) ∧ ∀ q, rl_in (rl_give p n l) q ↔ rl_in l q ∨ (p ≤ q ∧ q < p + n)
  | lo, [], _, hl, _ => by
    unfold rl_give
    refine ⟨⟨hl, by simp; omega, trivial⟩, fun q => ?_⟩
    simp [rl_in]
  | lo, x :: r, h, hl, hq => by
    obtain ⟨h1, h2, h3⟩ := h
    unfold rl_give
    by_cases c : x.2 < p
    · rw [if_pos c]
      obtain ⟨k1, k2⟩ := rl_give_ok hn h3 (by omega) (fun q z => hq q (Or.inr z))
      refine ⟨⟨h1, h2, k1⟩, fun q => ?_⟩
      simp only [rl_in, k2]
      constructor
      · rintro (z | z | z)
        · exact Or.inl (Or.inl z)
        · exact Or.inl (Or.inr z)
        · exact Or.inr z
      · rintro ((z | z) | z)
        · exact Or.inl z
        · exact Or.inr (Or.inl z)
        · exact Or.inr (Or.inr z)
    · rw [if_neg c]
      by_cases d : x.2 = p
      · rw [if_pos d]
        cases r with
        | nil =>
          refine ⟨⟨by simp; omega, by simp; omega, trivial⟩, fun q => ?_⟩
          simp only [rl_in]
          constructor
          · rintro (z | z)
            · by_cases y : q < p
              · exact Or.inl (Or.inl (by omega))
              · exact Or.inr (by omega)
            · exact z.elim
          · rintro ((z | z) | z)
            · exact Or.inl (by omega)
            · exact z.elim
            · exact Or.inl (by omega)
        | cons y s =>
          obtain ⟨g1, g2, g3⟩ := h3
          have hy : p + n ≤ y.1 := by
            have a1 := hq y.1 (Or.inr (Or.inl ⟨by omega, g2⟩))
            omega
          simp only
          by_cases e : y.1 = p + n
          · rw [if_pos e]
            refine ⟨⟨by simp; omega, by simp; omega, g3⟩, fun q => ?_⟩
            simp only [rl_in]
            constructor
            · rintro (z | z)
              · by_cases w : q < p
                · exact Or.inl (Or.inl (by omega))
                · by_cases w2 : q < p + n
                  · exact Or.inr (by omega)
                  · exact Or.inl (Or.inr (Or.inl (by omega)))
              · exact Or.inl (Or.inr (Or.inr z))
            · rintro ((z | z | z) | z)
              · exact Or.inl (by omega)
              · exact Or.inl (by omega)
              · exact Or.inr z
              · exact Or.inl (by omega)
          · rw [if_neg e]
            refine ⟨⟨by simp; omega, by simp; omega, ⟨by simp; omega, g2, g3⟩⟩, fun q => ?_⟩
            simp only [rl_in]
            constructor
            · rintro (z | z | z)
              · by_cases w : q < p
                · exact Or.inl (Or.inl (by omega))
                · exact Or.inr (by omega)
              · exact Or.inl (Or.inr (Or.inl z))
              · exact Or.inl (Or.inr (Or.inr z))
            · rintro ((z | z | z) | z)
              · exact Or.inl (by omega)
              · exact Or.inr (Or.inl z)
              · exact Or.inr (Or.inr z)
              · exact Or.inl (by omega)
      · rw [if_neg d]
        have hx : p + n ≤ x.1 := by
          have a1 := hq x.1 (Or.inl ⟨by omega, h2⟩)
          have a2 := hq p
          by_cases w : x.1 ≤ p
          · exact absurd ⟨Nat.le_refl p, by omega⟩ (a2 (Or.inl ⟨w, by omega⟩))
          · omega
        by_cases e : x.1 = p + n
        · rw [if_pos e]
          refine ⟨⟨by simp; omega, by simp; omega, h3⟩, fun q => ?_⟩
          simp only [rl_in]
          constructor
          · rintro (z | z)
            · by_cases w : q < p + n
              · exact Or.inr (by omega)
              · exact Or.inl (Or.inl (by omega))
            · exact Or.inl (Or.inr z)
          · rintro ((z | z) | z)
            · exact Or.inl (by omega)
            · exact Or.inr z
            · exact Or.inl (by omega)
        · rw [if_neg e]
          refine ⟨⟨by simp; omega, by simp; omega, ⟨by simp; omega, h2, h3⟩⟩, fun q => ?_⟩
          simp only [rl_in]
          constructor
          · rintro (z | z | z)
            · exact Or.inr (by omega)
            · exact Or.inl (Or.inl z)
            · exact Or.inl (Or.inr z)
          · rintro ((z | z) | z)
            · exact Or.inr (Or.inl z)
            · exact Or.inr (Or.inr z)
            · exact Or.inl (by omega)
/-- the lowest place of so many -/
def rl_find (n : Nat) : List (Nat × Nat) → Option Nat
  | [] => none
  | x :: r => if n ≤ x.2 - x.1 then some x.1 else rl_find n r
theorem rl_find_mem {n a : Nat} : ∀ {l : List (Nat × Nat)}, rl_find n l = some a → ∃ b, (a, b) ∈ l ∧ n ≤ b - a
  | [], h => by cases h
  | x :: r, h => by
    unfold rl_find at h
    split at h
    · cases h
      exact ⟨x.2, by simp, by assumption⟩
    · obtain ⟨b, h1, h2⟩ := rl_find_mem h
      exact ⟨b, List.mem_cons_of_mem _ h1, h2⟩
/-- n places in a row from a on that are free lie in one run -/
theorem rl_row {n a : Nat} (hn : 0 < n) : ∀ {lo : Nat} {l : List (Nat × Nat)}, rl_ok lo l → (∀ i, i < n → rl_in l (a + i)) → ∃ x, x ∈ l ∧ x.1 ≤ a ∧ a + n ≤ x.2
  | _, [], _, h => (h 0 hn).elim
  | lo, x :: r, h0, h => by
    obtain ⟨h1, h2, h3⟩ := h0
    by_cases c : a < x.2
    · refine ⟨x, by simp, ?_, ?_⟩
      · rcases h 0 hn with z | z
        · exact z.1
        · have := rl_in.ge h3 z
          omega
      · by_cases d : a + n ≤ x.2
        · exact d
        · exfalso
          have z := h (x.2 - a) (by omega)
          rw [show a + (x.2 - a) = x.2 by omega] at z
          rcases z with z | z
          · omega
          · have := rl_in.ge h3 z
            omega
    · have : ∀ i, i < n → rl_in r (a + i) := fun i hi => by
        rcases h i hi with z | z
        · omega
        · exact z
      obtain ⟨y, y1, y2⟩ := rl_row hn h3 this
      exact ⟨y, List.mem_cons_of_mem _ y1, y2⟩
theorem rl_find_le {n : Nat} : ∀ {lo : Nat} {l : List (Nat × Nat)} {x : Nat × Nat}, rl_ok lo l → x ∈ l → n ≤ x.2 - x.1 → ∃ a, rl_find n l = some a ∧ a ≤ x.1
  | _, [], _, _, m, _ => by cases m
  | lo, y :: r, x, h, m, hx => by
    obtain ⟨h1, h2, h3⟩ := h
    unfold rl_find
    by_cases c : n ≤ y.2 - y.1
    · rw [if_pos c]
      refine ⟨_, rfl, ?_⟩
      rcases List.mem_cons.mp m with e | e
      · rw [e]; exact Nat.le_refl _
      · have : rl_in r x.1 := by
          clear c hx m h1 h2
          induction r generalizing y with
          | nil => cases e
          | cons z s ih =>
            rcases List.mem_cons.mp e with e | e
            · rw [e]; exact Or.inl ⟨Nat.le_refl _, h3.2.1⟩
            · exact Or.inr (ih z h3.2.2 e)
        have := rl_in.ge h3 this
        omega
    · rw [if_neg c]
      rcases List.mem_cons.mp m with e | e
      · rw [e] at hx; omega
      · exact rl_find_le h3 e hx
