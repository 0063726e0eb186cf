/-! STAGE 2, 3: what is in locals that nobody reads does no harm; posts by the kind of what is returned; calls -/
def gm_Ls (L L' : gm_L) : Prop := ∀ i v, gm_ld L i = some v → gm_ld L' i = some v
def gm_Lle : gm_L → gm_L → Prop
  | [], _ => True
  | none :: t, [] => gm_Lle t []
  | none :: t, _ :: t' => gm_Lle t t'
  | some v :: t, some v' :: t' => v = v' ∧ gm_Lle t t'
  | some _ :: _, _ => False
theorem gm_ld_nil' (i : Nat) : gm_ld [] i = none := by cases i <;> rfl
theorem gm_Lle.sem : ∀ {L L' : gm_L}, gm_Lle L L' → gm_Ls L L'
  | [], _, _, i, v, h => by rw [gm_ld_nil'] at h; cases h
  | none :: t, [], h, i, v, hv => by
    cases i with
    | zero => cases hv
    | succ i => exact absurd (gm_Lle.sem (L := t) (L' := []) h i v hv) (by rw [gm_ld_nil']; exact fun z => by cases z)
  | none :: t, x :: t', h, i, v, hv => by
    cases i with
    | zero => cases hv
    | succ i => exact gm_Lle.sem (L := t) (L' := t') h i v hv
  | some w :: t, some w' :: t', h, i, v, hv => by
    obtain ⟨rfl, h2⟩ := h
    cases i with
    | zero => exact hv
    | succ i => exact gm_Lle.sem (L := t) (L' := t') h2 i v hv
  | some w :: t, [], h, _, _, _ => h.elim
  | some w :: t, none :: t', h, _, _, _ => h.elim
def gm_w2 (x : Option Value) : Bool := match x with | some (.long _) => true | some (.double _) => true | _ => false
/-- what a store of one slot leaves -/
theorem gm_ld_stoE : ∀ (L : gm_L) (i : Nat) (v : Value) (j : Nat), gm_ld (gm_sto L i v) j = if j = i then some v else if j + 1 = i ∧ gm_w2 (gm_ld L j) = true then none else gm_ld L j
  | [], 0, v, j => by cases j <;> simp [gm_sto, gm_ld, gm_ld_nil', gm_w2]
  | [], i + 1, v, j => by
    cases j with
    | zero => simp [gm_sto, gm_ld, gm_w2]
    | succ j => simp [gm_sto, gm_ld, gm_ld_stoE [] i v j, gm_ld_nil', gm_w2]
  | x :: t, 0, v, j => by cases j <;> simp [gm_sto, gm_ld]
  | x :: t, i + 1, v, j => by
    cases j with
    | zero =>
      cases i with
      | zero =>
        rcases x with _ | x
        · simp [gm_sto, gm_ld, gm_w2]
        · cases x <;> simp [gm_sto, gm_ld, gm_w2]
      | succ i => simp [gm_sto, gm_ld]
    | succ j => simp [gm_sto, gm_ld, gm_ld_stoE t i v j]
theorem gm_ld_sto2E : ∀ (L : gm_L) (i : Nat) (v : Value) (j : Nat), gm_ld (gm_sto2 L i v) j = if j = i then some v else if j = i + 1 then none else if j + 1 = i ∧ gm_w2 (gm_ld L j) = true then none else gm_ld L j
  | [], 0, v, j => by
    rcases j with _ | _ | j
    · simp [gm_sto2, gm_ld]
    · simp [gm_sto2, gm_ld]
    · simp [gm_sto2, gm_ld, gm_ld_nil', gm_w2]
  | [], i + 1, v, j => by
    cases j with
    | zero => simp [gm_sto2, gm_ld, gm_w2]
    | succ j => simp [gm_sto2, gm_ld, gm_ld_sto2E [] i v j, gm_ld_nil', gm_w2]
  | x :: t, 0, v, j => by
    rcases j with _ | _ | j
    · simp [gm_sto2, gm_ld]
    · cases t <;> simp [gm_sto2, gm_no, gm_ld]
    · cases t <;> simp [gm_sto2, gm_no, gm_ld, gm_ld_nil']
  | x :: t, i + 1, v, j => by
    cases j with
    | zero =>
      cases i with
      | zero =>
        rcases x with _ | x
        · simp [gm_sto2, gm_ld, gm_w2]
        · cases x <;> simp [gm_sto2, gm_ld, gm_w2]
      | succ i => simp [gm_sto2, gm_ld]
    | succ j => simp [gm_sto2, gm_ld, gm_ld_sto2E t i v j]
theorem gm_Ls.sto {L L' : gm_L} (h : gm_Ls L L') (i : Nat) (v : Value) : gm_Ls (gm_sto L i v) (gm_sto L' i v) := by
  intro j w hw
  rw [gm_ld_stoE] at hw ⊢
  by_cases e : j = i
  · rw [if_pos e] at hw ⊢; exact hw
  · rw [if_neg e] at hw ⊢
    by_cases c : j + 1 = i ∧ gm_w2 (gm_ld L j) = true
    · rw [if_pos c] at hw; cases hw
    · rw [if_neg c] at hw
      have h2 := h j w hw
      rw [h2, if_neg (by rw [← hw]; exact c)]
theorem gm_Ls.sto2 {L L' : gm_L} (h : gm_Ls L L') (i : Nat) (v : Value) : gm_Ls (gm_sto2 L i v) (gm_sto2 L' i v) := by
  intro j w hw
  rw [gm_ld_sto2E] at hw ⊢
  by_cases e : j = i
  · rw [if_pos e] at hw ⊢; exact hw
  · rw [if_neg e] at hw ⊢
    by_cases e2 : j = i + 1
    · rw [if_pos e2] at hw; cases hw
    · rw [if_neg e2] at hw ⊢
      by_cases c : j + 1 = i ∧ gm_w2 (gm_ld L j) = true
      · rw [if_pos c] at hw; cases hw
      · rw [if_neg c] at hw
        have h2 := h j w hw
        rw [h2, if_neg (by rw [← hw]; exact c)]
theorem gm_stI_L {K : gm_K} (hK : ∀ k pc L L' st h x, gm_Ls L L' → K k pc L st h = some x → K k pc L' st h = some x) {k pc len : Nat} {ins : Instr} {L L' : gm_L} (hL : gm_Ls L L') {st : List Value} {h : hh_T} {x : gm_R} (hg : gm_stI K k pc len ins L st h = some x) : gm_stI K k pc len ins L' st h = some x := by
  have hk : ∀ pc' st' h', K k pc' L st' h' = some x → K k pc' L' st' h' = some x := fun _ _ _ => hK _ _ _ _ _ _ _ hL
  have hex : ∀ {pc a h'}, gm_exc K k pc L a h' = some x → gm_exc K k pc L' a h' = some x := by
    intro pc a h' q
    unfold gm_exc at q ⊢
    split at q
    · rename_i ht
      rw [if_pos ht]
      cases hq : gm_hd k pc with
      | some z => rw [hq] at q; exact hk _ _ _ q
      | none => rw [hq] at q; exact q
    · cases q
  have hca : ∀ {y n h'}, gm_call K k pc len y n L st h' = some x → gm_call K k pc len y n L' st h' = some x := by
    intro y n h' q
    unfold gm_call at q ⊢
    split at q
    · rename_i hc
      rw [if_pos hc]
      cases e : K y 0 (gm_ent ((st.take n).reverse)) [] h' with
      | none => rw [e] at q; cases q
      | some w =>
        rw [e] at q
        obtain ⟨r, h1⟩ := w
        rcases r with (_ | v) | a
        · exact hk _ _ _ q
        · exact hk _ _ _ q
        · exact hex q
    · cases q
  cases ins
  case iload i =>
    simp only [gm_stI] at hg ⊢
    split at hg
    · rename_i y e; rw [hL _ _ e]; exact hk _ _ _ hg
    · cases hg
  case lload i =>
    simp only [gm_stI] at hg ⊢
    split at hg
    · rename_i y e; rw [hL _ _ e]; exact hk _ _ _ hg
    · cases hg
  case aload i =>
    simp only [gm_stI] at hg ⊢
    split at hg
    · rename_i y e; rw [hL _ _ e]; exact hk _ _ _ hg
    · rename_i e; rw [hL _ _ e]; exact hk _ _ _ hg
    · cases hg
  case iinc i z =>
    simp only [gm_stI] at hg ⊢
    split at hg
    · rename_i y e; rw [hL _ _ e]; exact hK _ _ _ _ _ _ _ (hL.sto _ _) hg
    · cases hg
  case istore i =>
    simp only [gm_stI] at hg ⊢
    split at hg
    · exact hK _ _ _ _ _ _ _ (hL.sto _ _) hg
    · cases hg
  case lstore i =>
    simp only [gm_stI] at hg ⊢
    split at hg
    · exact hK _ _ _ _ _ _ _ (hL.sto2 _ _) hg
    · cases hg
  case astore i =>
    simp only [gm_stI] at hg ⊢
    split at hg
    · exact hK _ _ _ _ _ _ _ (hL.sto _ _) hg
    · exact hK _ _ _ _ _ _ _ (hL.sto _ _) hg
    · cases hg
  all_goals first
    | exact hk _ _ _ hg
    | exact gm_ii_mono (fun r => hk _ _ _) hg
    | exact gm_ll_mono (fun r => hk _ _ _) hg
    | exact gm_li_mono (fun r => hk _ _ _) hg
    | exact hca hg
    | (revert hg; simp only [gm_stI]; intro hg; cases hg; done)
    | skip
  all_goals (revert hg; simp only [gm_stI])
  all_goals ((repeat' split) <;> intro hg <;> first | exact hk _ _ _ hg | (cases hg; done) | exact hg | exact hex hg | exact gm_br_mono (hk _ _ _) (hk _ _ _) hg | exact hca hg | exact gm_ii_mono (fun r => hk _ _ _) hg | exact gm_ll_mono (fun r => hk _ _ _) hg | exact gm_li_mono (fun r => hk _ _ _) hg)
theorem gm_go_L : ∀ (n : Nat) (k pc : Nat) (L L' : gm_L) (st : List Value) (h : hh_T) (x : gm_R), gm_Ls L L' → gm_go n k pc L st h = some x → gm_go n k pc L' st h = some x
  | 0, _, _, _, _, _, _, _, _, h => by cases h
  | n + 1, k, pc, L, L', st, h, x, hL, hg => gm_stI_L (gm_go_L n) hL hg
theorem g_weak {k pc : Nat} {L L' : gm_L} {st : List Value} {h : hh_T} {Q : Option Value ⊕ Nat → hh_T → Prop} (hL : gm_Lle L L') (H : gm_G k pc L st h Q) : gm_G k pc L' st h Q := by
  obtain ⟨n, r, h', h1, h2⟩ := H
  exact ⟨n, r, h', gm_go_L n _ _ _ _ _ _ _ hL.sem h1, h2⟩
def pI (P : Int32 → hh_T → Prop) (E : Nat → hh_T → Prop) (r : Option Value ⊕ Nat) (h : hh_T) : Prop := match r with
  | .inl (some (.int x)) => P x h
  | .inr a => E a h
  | _ => False
def pL (P : Int64 → hh_T → Prop) (E : Nat → hh_T → Prop) (r : Option Value ⊕ Nat) (h : hh_T) : Prop := match r with
  | .inl (some (.long x)) => P x h
  | .inr a => E a h
  | _ => False
def pV (P : hh_T → Prop) (E : Nat → hh_T → Prop) (r : Option Value ⊕ Nat) (h : hh_T) : Prop := match r with
  | .inl none => P h
  | .inr a => E a h
  | _ => False
def pR (P : Option Nat → hh_T → Prop) (E : Nat → hh_T → Prop) (r : Option Value ⊕ Nat) (h : hh_T) : Prop := match r with
  | .inl (some (.ref x)) => P (some x) h
  | .inl (some .null) => P none h
  | .inr a => E a h
  | _ => False
theorem pI_elim {P : Int32 → hh_T → Prop} {E : Nat → hh_T → Prop} {R : Option Value ⊕ Nat → hh_T → Prop} (h1 : ∀ x h, P x h → R (.inl (some (.int x))) h) (h2 : ∀ a h, E a h → R (.inr a) h) (r : Option Value ⊕ Nat) (h : hh_T) (q : pI P E r h) : R r h := by
  rcases r with (_ | v) | a
  · exact q.elim
  · cases v <;> first | exact h1 _ _ q | exact q.elim
  · exact h2 _ _ q
theorem pL_elim {P : Int64 → hh_T → Prop} {E : Nat → hh_T → Prop} {R : Option Value ⊕ Nat → hh_T → Prop} (h1 : ∀ x h, P x h → R (.inl (some (.long x))) h) (h2 : ∀ a h, E a h → R (.inr a) h) (r : Option Value ⊕ Nat) (h : hh_T) (q : pL P E r h) : R r h := by
  rcases r with (_ | v) | a
  · exact q.elim
  · cases v <;> first | exact h1 _ _ q | exact q.elim
  · exact h2 _ _ q
theorem pV_elim {P : hh_T → Prop} {E : Nat → hh_T → Prop} {R : Option Value ⊕ Nat → hh_T → Prop} (h1 : ∀ h, P h → R (.inl none) h) (h2 : ∀ a h, E a h → R (.inr a) h) (r : Option Value ⊕ Nat) (h : hh_T) (q : pV P E r h) : R r h := by
  rcases r with (_ | v) | a
  · exact h1 _ q
  · exact q.elim
  · exact h2 _ _ q
theorem pR_elim {P : Option Nat → hh_T → Prop} {E : Nat → hh_T → Prop} {R : Option Value ⊕ Nat → hh_T → Prop} (h1 : ∀ x h, P x h → R (.inl (some (va_rf x))) h) (h2 : ∀ a h, E a h → R (.inr a) h) (r : Option Value ⊕ Nat) (h : hh_T) (q : pR P E r h) : R r h := by
  rcases r with (_ | v) | a
  · exact q.elim
  · cases v <;> first | exact h1 _ _ q | exact q.elim
  · exact h2 _ _ q
section GC
variable {k pc len pc' y n : Nat} {L Le : gm_L} {st0 rest : List Value} {ins : Instr} {h : hh_T} {Q : Option Value ⊕ Nat → hh_T → Prop}
theorem g_call (e : gm_it k pc = (ins, len)) (hi : ∀ K : gm_K, gm_stI K k pc len ins L st0 h = gm_call K k pc len y n L st0 h) (hL : gm_ent ((st0.take n).reverse) = Le) (hd : st0.drop n = rest) (hc : n ≤ st0.length ∧ st0.length ≤ n + 6 ∧ Le.length ≤ gm_ml y) (p : pc + len = pc')
    (H : gm_G y 0 Le [] h (gm_A k pc pc' L rest Q)) : gm_G k pc L st0 h Q := by
  subst p; subst hL; subst hd
  exact gm_call_G e hi hc H
theorem g_vt {N a t : Nat} {rest' : List Value} (ht : hh_tg h a = t) (hv : gm_vt (N / 16) t = some y) (hs : st0.drop (N % 16 - 1) = .ref a :: rest') : ∀ K : gm_K, gm_stI K k pc len (.invokevirtual N) L st0 h = gm_call K k pc len y (N % 16) L st0 h := fun K => by
  simp only [gm_stI, hs, ht, hv]
theorem g_vti {N c a t : Nat} {rest' : List Value} (ht : hh_tg h a = t) (hv : gm_vt (N / 16) t = some y) (hs : st0.drop (N % 16 - 1) = .ref a :: rest') : ∀ K : gm_K, gm_stI K k pc len (.invokeinterface N c) L st0 h = gm_call K k pc len y (N % 16) L st0 h := fun K => by
  simp only [gm_stI, hs, ht, hv]
end GC
