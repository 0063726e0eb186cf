/-! STAGE 3: there is always a free place in the table of blocks -/
theorem pigeon : ∀ (n : Nat) (f : Nat → Nat), (∀ i, i ≤ n → f i < n) → ∃ i j, i < j ∧ j ≤ n ∧ f i = f j
  | 0, f, h => absurd (h 0 (Nat.le_refl _)) (Nat.not_lt_zero _)
  | n + 1, f, h => by
    by_cases c : ∃ i, i ≤ n ∧ f i = f (n + 1)
    · obtain ⟨i, h1, h2⟩ := c
      exact ⟨i, n + 1, by omega, Nat.le_refl _, h2⟩
    · have hc : ∀ i, i ≤ n → ¬ f i = f (n + 1) := fun i hi e => c ⟨i, hi, e⟩
      have hl := h (n + 1) (Nat.le_refl _)
      obtain ⟨i, j, h1, h2, h3⟩ := pigeon n (fun i => if f i = n then f (n + 1) else f i) (fun i hi => by
        have a := h i (by omega)
        have b := hc i hi
        (try dsimp only)
        split <;> omega)
      (try dsimp only at h3)
      have bi := hc i (by omega)
      have bj := hc j (by omega)
      refine ⟨i, j, h1, by omega, ?_⟩
      split at h3 <;> split at h3 <;> omega
/-- where a place of a group lies: disk and sector -/
def zg_ad (G : zG) (g a : Nat) : Nat := if zg_par G g then 64 * zg_dsk G g (a % zg_many G g) + a / zg_many G g else 64 * zg_dsk G g 0 + a
theorem zg_ad_lt {P : zP} {G : zG} {g a : Nat} (K : zg_ok P G) (hg : g < zg_ng G) (ha : a < zg_pl G g) : zg_ad G g a < 512 := by
  obtain ⟨k0, k1, k2, k3, k4, k5⟩ := K
  obtain ⟨c1, c2, c3, c4, c5, c6, c7⟩ := k1 g hg
  unfold zg_pl at ha
  unfold zg_ad
  cases u : zg_par G g with
  | true =>
    rw [u, if_pos rfl] at ha
    rw [if_pos rfl]
    have h1 := (c7 (a % zg_many G g) (Nat.mod_lt _ (by omega))).1
    have h2 : a / zg_many G g < zg_len G g := Nat.div_lt_of_lt_mul ha
    omega
  | false =>
    rw [u, if_neg (by decide)] at ha
    rw [if_neg (by decide)]
    have h1 := (c7 0 (by omega)).1
    omega
theorem zg_ad_inj {P : zP} {G : zG} {g a g' a' : Nat} (K : zg_ok P G) (hg : g < zg_ng G) (ha : a < zg_pl G g) (hg' : g' < zg_ng G) (ha' : a' < zg_pl G g') (e : zg_ad G g a = zg_ad G g' a') : g = g' ∧ a = a' := by
  obtain ⟨k0, k1, k2, k3, k4, k5⟩ := K
  -- disk and sector of a place
  have q : ∀ g a, g < zg_ng G → a < zg_pl G g → ∃ x s, x < zg_many G g ∧ s < 64 ∧ zg_ad G g a = 64 * zg_dsk G g x + s ∧ ((zg_par G g = true ∧ x = a % zg_many G g ∧ s = a / zg_many G g) ∨ (zg_par G g = false ∧ x = 0 ∧ s = a)) := by
    intro g a hg ha
    obtain ⟨c1, c2, c3, c4, c5, c6, c7⟩ := k1 g hg
    unfold zg_pl at ha
    unfold zg_ad
    cases u : zg_par G g with
    | true =>
      rw [u, if_pos rfl] at ha
      rw [if_pos rfl]
      have h2 : a / zg_many G g < zg_len G g := Nat.div_lt_of_lt_mul ha
      exact ⟨_, _, Nat.mod_lt _ (by omega), by omega, rfl, Or.inl ⟨rfl, rfl, rfl⟩⟩
    | false =>
      rw [u, if_neg (by decide)] at ha
      rw [if_neg (by decide)]
      exact ⟨0, a, by omega, by omega, rfl, Or.inr ⟨rfl, rfl, rfl⟩⟩
  obtain ⟨x, s, x1, x2, x3, x4⟩ := q g a hg ha
  obtain ⟨x', s', y1, y2, y3, y4⟩ := q g' a' hg' ha'
  rw [x3, y3] at e
  have ed : zg_dsk G g x = zg_dsk G g' x' := by omega
  have es : s = s' := by omega
  have f1 := ((k1 g hg).2.2.2.2.2.2 x x1).2.2
  have f2 := ((k1 g' hg').2.2.2.2.2.2 x' y1).2.2
  rw [ed, f2] at f1
  have eg : g' = g := Option.some.inj f1
  subst eg
  have ex := k2 g' x x' hg' x1 y1 ed
  refine ⟨rfl, ?_⟩
  rcases x4 with ⟨u1, u2, u3⟩ | ⟨u1, u2, u3⟩ <;> rcases y4 with ⟨v1, v2, v3⟩ | ⟨v1, v2, v3⟩
  · rw [← Nat.div_add_mod a (zg_many G g'), ← Nat.div_add_mod a' (zg_many G g'), ← u2, ← u3, ← v2, ← v3, ex, es]
  · rw [u1] at v1; cases v1
  · rw [u1] at v1; cases v1
  · omega
/-- of 640 places that hold blocks with keys of their own, one at least is free -/
theorem tb_free {P : zP} {G : zG} (K : zg_ok P G) {u : Nat → Bool} {κ : Nat → Nat × Nat} (h1 : ∀ p, p < 640 → u p = true → (κ p).1 < zg_ng G ∧ (κ p).2 < zg_pl G (κ p).1) (h2 : ∀ p q, p < 640 → q < 640 → u p = true → u q = true → κ p = κ q → p = q) : ∃ x, x < 640 ∧ u x = false := by
  by_cases c : ∃ x, x < 640 ∧ u x = false
  · exact c
  · have hu : ∀ p, p < 640 → u p = true := fun p hp => by
      cases z : u p with
      | true => rfl
      | false => exact absurd ⟨p, hp, z⟩ c
    obtain ⟨i, j, q1, q2, q3⟩ := pigeon 512 (fun p => zg_ad G (κ p).1 (κ p).2) (fun i hi => by
      obtain ⟨a, b⟩ := h1 i (by omega) (hu i (by omega))
      exact zg_ad_lt K a b)
    obtain ⟨a, b⟩ := h1 i (by omega) (hu i (by omega))
    obtain ⟨a', b'⟩ := h1 j (by omega) (hu j (by omega))
    obtain ⟨e1, e2⟩ := zg_ad_inj K a b a' b' q3
    have := h2 i j (by omega) (by omega) (hu i (by omega)) (hu j (by omega)) (Prod.ext e1 e2)
    omega
theorem ffi_some {P : Nat → Bool} : ∀ {d k a : Nat}, ffi P d k = some a → k ≤ a ∧ a < k + d ∧ P a = true ∧ ∀ i, k ≤ i → i < a → P i = false
  | 0, _, _, e => by cases e
  | d + 1, k, a, e => by
    rw [ffi_S] at e
    cases z : P k with
    | true =>
      rw [z, if_pos rfl] at e
      cases e
      exact ⟨Nat.le_refl _, by omega, z, fun i h1 h2 => by omega⟩
    | false =>
      rw [z, if_neg (by decide)] at e
      obtain ⟨q1, q2, q3, q4⟩ := ffi_some e
      refine ⟨by omega, by omega, q3, fun i h1 h2 => ?_⟩
      by_cases y : i = k
      · rw [y]; exact z
      · exact q4 i (by omega) h2
theorem zl_fr_ok {G : zG} {U : List zB} {g t a : Nat} (e : zl_fr G U g t = some a) : a + t ≤ zg_pl G g ∧ ∀ n, n < t → zl_tk G U g (a + n) = false := by
  unfold zl_fr at e
  obtain ⟨-, q2, q3, -⟩ := ffi_some e
  refine ⟨by omega, fun n hn => ?_⟩
  have := List.all_eq_true.mp q3 n (List.mem_range.mpr hn)
  cases z : zl_tk G U g (a + n) with
  | false => rfl
  | true => rw [z] at this; cases this
theorem zl_ch_ok {P : zP} {G : zG} {U : List zB} {k g : Nat} {but : Option Nat} (e : zl_ch P G U k but = some g) : g < zg_ng G ∧ ∃ a, zl_fr G U g (zg_sp G g k) = some a := by
  have st : ∀ (f : Option Nat → Nat → Option Nat) (A : Nat → Prop), (∀ best x, (∀ y, best = some y → A y) → x < zg_ng G → ∀ y, f best x = some y → A y) → ∀ (l : List Nat) (best : Option Nat), (∀ x, x ∈ l → x < zg_ng G) → (∀ y, best = some y → A y) → ∀ y, l.foldl f best = some y → A y := by
    intro f A hf l
    induction l with
    | nil => intro best _ hb y hy; exact hb y hy
    | cons x r ih => intro best hx hb y hy; exact ih (f best x) (fun z hz => hx z (List.mem_cons_of_mem _ hz)) (hf best x hb (hx x (List.mem_cons_self ..))) y hy
  unfold zl_ch at e
  refine st _ (fun g => g < zg_ng G ∧ ∃ a, zl_fr G U g (zg_sp G g k) = some a) ?_ _ none (fun x hx => List.mem_range.mp hx) (fun y hy => by cases hy) g e
  intro best x hb hx y hy
  (try dsimp only at hy)
  by_cases c : some x = but ∨ zg_fit P G x = false ∨ zl_fr G U x (zg_sp G x k) = none
  · rw [if_pos c] at hy; exact hb y hy
  · rw [if_neg c] at hy
    have hx2 : ∃ a, zl_fr G U x (zg_sp G x k) = some a := by
      cases z : zl_fr G U x (zg_sp G x k) with
      | none => exact absurd (Or.inr (Or.inr z)) c
      | some a => exact ⟨a, rfl⟩
    cases best with
    | none => cases hy; exact ⟨hx, hx2⟩
    | some b =>
      (try dsimp only at hy)
      split at hy
      · cases hy; exact ⟨hx, hx2⟩
      · cases hy; exact hb _ rfl
theorem zg_sp_pos {P : zP} {G : zG} {g k : Nat} (hk : 1 ≤ k) : 1 ≤ zg_sp G g k := by
  unfold zg_sp
  split <;> omega
theorem zl_tk_c (G : zG) (b : zB) (U : List zB) (g p : Nat) : zl_tk G (b :: U) g p = ((zb_cp b).any (fun c => decide (c.1 = g) && decide (c.2 ≤ p) && decide (p < c.2 + zg_sp G g (zb_k b))) || zl_tk G U g p) := rfl
/-- a block in use takes the place where it begins -/
theorem zl_tk_key {P : zP} {G : zG} {b : zB} {U : List zB} (hb : b ∈ U) (hk : 1 ≤ zb_k b) (hc : 1 ≤ (zb_cp b).length) : zl_tk G U (zb_key b).1 (zb_key b).2 = true := by
  unfold zl_tk
  rw [List.any_eq_true]
  refine ⟨b, hb, ?_⟩
  rw [List.any_eq_true]
  refine ⟨zb_key b, ?_, ?_⟩
  · unfold zb_key
    cases z : zb_cp b with
    | nil => rw [z] at hc; exact absurd hc (by decide)
    | cons x r => exact List.mem_cons_self ..
  · have := zg_sp_pos (P := P) (G := G) (g := (zb_key b).1) hk
    rw [decide_eq_true rfl, decide_eq_true (Nat.le_refl _), decide_eq_true (by omega)]
    rfl
