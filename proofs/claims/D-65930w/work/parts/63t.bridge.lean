/-! STAGE 3: places taken, by blocks -/
theorem bs.bi {v : Int32} {P : Prop} {b : Bool} (q : bs v P) (e : P ↔ b = true) : v = bi b := by
  cases b with
  | true => exact q.t (e.mpr rfl)
  | false => exact q.f (fun z => absurd (e.mp z) (by decide))
theorem tk_br {P : zP} {G : zG} {U : List zB} {Us : Nat → Prop} {β : Nat → zB} {g x : Nat} (K : zg_ok P G) (hz : ∀ b, b ∈ U → zb_ok G b) (h1 : ∀ b, b ∈ U → ∃ p, p < 640 ∧ Us p ∧ β p = b) (h2 : ∀ p, p < 640 → Us p → β p ∈ U) (hx : x < 384) : tm_k G Us β 640 (384 * g + x) ↔ zl_tk G U g x = true := by
  unfold zl_tk
  rw [List.any_eq_true]
  constructor
  · rintro ⟨q, c, q1, q2, q3, q4, q5⟩
    have hm := h2 q q1 q2
    have ed : (zb_cp (β q)).getD c (0, 0) = (zb_cp (β q))[c] := by rw [List.getD_eq_getElem?_getD, List.getElem?_eq_getElem q3]; rfl
    have hc : (zb_cp (β q)).getD c (0, 0) ∈ zb_cp (β q) := by rw [ed]; exact List.getElem_mem q3
    obtain ⟨z1, z2⟩ := hz _ hm _ hc
    have z3 := zg_pl_le K z1
    have eg : ((zb_cp (β q)).getD c (0, 0)).1 = g := by omega
    refine ⟨β q, hm, ?_⟩
    rw [List.any_eq_true]
    refine ⟨_, hc, ?_⟩
    rw [eg] at q4 q5
    rw [decide_eq_true eg, decide_eq_true (show ((zb_cp (β q)).getD c (0, 0)).2 ≤ x by omega), decide_eq_true (show x < ((zb_cp (β q)).getD c (0, 0)).2 + zg_sp G g (zb_k (β q)) by omega)]
    rfl
  · rintro ⟨b, hb, hc⟩
    obtain ⟨p, p1, p2, rfl⟩ := h1 b hb
    rw [List.any_eq_true] at hc
    obtain ⟨c, hc, e⟩ := hc
    rw [Bool.and_eq_true, Bool.and_eq_true, decide_eq_true_eq, decide_eq_true_eq, decide_eq_true_eq] at e
    obtain ⟨i, hi, ei⟩ := List.getElem_of_mem hc
    have ed : (zb_cp (β p)).getD i (0, 0) = c := by rw [List.getD_eq_getElem?_getD, List.getElem?_eq_getElem hi, ei]; rfl
    refine ⟨p, i, p1, p2, hi, ?_⟩
    rw [ed, e.1.1]
    omega
theorem tkd.of {h : hh_T} {m : Nat} {P : zP} {G : zG} {U : List zB} {Us : Nat → Prop} {β : Nat → zB} (K : zg_ok P G) (hz : ∀ b, b ∈ U → zb_ok G b) (h1 : ∀ b, b ∈ U → ∃ p, p < 640 ∧ Us p ∧ β p = b) (h2 : ∀ p, p < 640 → Us p → β p ∈ U) (q : ∀ x, x < 1152 → bs (hh_i h (m + 27) x) (tm_k G Us β 640 x)) : tkd h m G U :=
  fun g x hg hx => (q (384 * g + x) (by omega)).bi (tk_br K hz h1 h2 hx)
/-- taking a block's copies one by one: places taken by a block as far as it goes -/
def zl_tc (G : zG) (b : zB) (n g x : Nat) : Bool := ((zb_cp b).take n).any (fun c => decide (c.1 = g) && decide (c.2 ≤ x) && decide (x < c.2 + zg_sp G g (zb_k b)))
