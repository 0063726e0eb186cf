/-! STAGE 2, 1: more fuel does no harm -/
def gm_le (K K' : gm_K) : Prop := ∀ k pc L st h x, K k pc L st h = some x → K' k pc L st h = some x
theorem gm_exc_mono {K K' : gm_K} (hK : gm_le K K') {k pc a : Nat} {L : gm_L} {h : hh_T} {x : gm_R} (hg : gm_exc K k pc L a h = some x) : gm_exc K' k pc L a h = some x := by
  unfold gm_exc at hg ⊢
  split at hg
  · rename_i ht
    rw [if_pos ht]
    cases hq : gm_hd k pc with
    | some q => rw [hq] at hg; exact hK _ _ _ _ _ _ hg
    | none => rw [hq] at hg; exact hg
  · cases hg
theorem gm_call_mono {K K' : gm_K} (hK : gm_le K K') {k pc len y n : Nat} {L : gm_L} {st : List Value} {h : hh_T} {x : gm_R} (hg : gm_call K k pc len y n L st h = some x) : gm_call K' k pc len y n L st h = some x := by
  unfold gm_call at hg ⊢
  split at hg
  · rename_i hc
    rw [if_pos hc]
    cases e : K y 0 (gm_ent ((st.take n).reverse)) [] h with
    | none => rw [e] at hg; cases hg
    | some w =>
      rw [e] at hg
      rw [hK _ _ _ _ _ _ e]
      obtain ⟨r, h'⟩ := w
      rcases r with (_ | v) | a
      · exact hK _ _ _ _ _ _ hg
      · exact hK _ _ _ _ _ _ hg
      · exact gm_exc_mono hK hg
  · cases hg
theorem gm_ii_mono {st : List Value} {f : Int32 → Int32 → Int32} {c c' : List Value → Option gm_R} {x : gm_R} (hc : ∀ r, c r = some x → c' r = some x) (hg : gm_ii st f c = some x) : gm_ii st f c' = some x := by
  unfold gm_ii at hg ⊢
  split at hg
  · exact hc _ hg
  · cases hg
theorem gm_ll_mono {st : List Value} {f : Int64 → Int64 → Int64} {c c' : List Value → Option gm_R} {x : gm_R} (hc : ∀ r, c r = some x → c' r = some x) (hg : gm_ll st f c = some x) : gm_ll st f c' = some x := by
  unfold gm_ll at hg ⊢
  split at hg
  · exact hc _ hg
  · cases hg
theorem gm_li_mono {st : List Value} {f : Int64 → Int32 → Int64} {c c' : List Value → Option gm_R} {x : gm_R} (hc : ∀ r, c r = some x → c' r = some x) (hg : gm_li st f c = some x) : gm_li st f c' = some x := by
  unfold gm_li at hg ⊢
  split at hg
  · exact hc _ hg
  · cases hg
theorem gm_br_mono {cd : Jvm.ClassFile.Cond} {a b : Int32} {A B A' B' : Option gm_R} {x : gm_R} (hA : A = some x → A' = some x) (hB : B = some x → B' = some x) (hg : gm_br cd a b A B = some x) : gm_br cd a b A' B' = some x := by
  cases cd <;> simp only [gm_br] at hg ⊢ <;> split at hg <;> rename_i q <;> first | (rw [if_pos q]; first | exact hA hg | exact hB hg) | (rw [if_neg q]; first | exact hA hg | exact hB hg)
theorem gm_stI_mono {K K' : gm_K} (hK : gm_le K K') {k pc len : Nat} {ins : Instr} {L : gm_L} {st : List Value} {h : hh_T} {x : gm_R} (hg : gm_stI K k pc len ins L st h = some x) : gm_stI K' k pc len ins L st h = some x := by
  have hk : ∀ pc' L' st' h', K k pc' L' st' h' = some x → K' k pc' L' st' h' = some x := fun _ _ _ _ => hK _ _ _ _ _ _
  cases ins
  all_goals first
    | exact hk _ _ _ _ hg
    | exact gm_ii_mono (fun r => hk _ _ _ _) hg
    | exact gm_ll_mono (fun r => hk _ _ _ _) hg
    | exact gm_li_mono (fun r => hk _ _ _ _) hg
    | exact gm_call_mono hK hg
    | (revert hg; simp only [gm_stI]; intro hg; cases hg; done)
    | skip
  all_goals (revert hg; simp only [gm_stI])
  all_goals first
    | (split <;> intro hg <;> first | exact hk _ _ _ _ hg | cases hg; done)
    | (split <;> first | (intro hg; cases hg; done) | (split <;> intro hg <;> first | exact hk _ _ _ _ hg | cases hg; done))
    | skip
  all_goals ((repeat' split) <;> intro hg <;> first | exact hk _ _ _ _ hg | (cases hg; done) | exact hg | exact gm_exc_mono hK hg | exact gm_br_mono (hk _ _ _ _) (hk _ _ _ _) hg | exact gm_call_mono hK hg | exact gm_ii_mono (fun r => hk _ _ _ _) hg | exact gm_ll_mono (fun r => hk _ _ _ _) hg | exact gm_li_mono (fun r => hk _ _ _ _) hg)
theorem gm_go_le : ∀ n, gm_le (gm_go n) (gm_go (n + 1))
  | 0 => fun _ _ _ _ _ _ h => by cases h
  | n + 1 => fun k pc L st h x hg => gm_stI_mono (gm_go_le n) hg
theorem gm_go_mono {n m : Nat} (hnm : n ≤ m) : gm_le (gm_go n) (gm_go m) := by
  induction hnm with
  | refl => exact fun _ _ _ _ _ _ h => h
  | step _ ih => exact fun _ _ _ _ _ _ h => gm_go_le _ _ _ _ _ _ _ (ih _ _ _ _ _ _ h)
/-- what holds of a run at an instruction -/
theorem gm_G_of {k pc len : Nat} {ins : Instr} {L : gm_L} {st : List Value} {h : hh_T} {Q : Option Value ⊕ Nat → hh_T → Prop} (e : gm_it k pc = (ins, len)) (H : ∃ n x, gm_stI (gm_go n) k pc len ins L st h = some x ∧ Q x.1 x.2) : gm_G k pc L st h Q := by
  obtain ⟨n, ⟨r, h'⟩, h1, h2⟩ := H
  refine ⟨n + 1, r, h', ?_, h2⟩
  show gm_stI (gm_go n) k pc (gm_it k pc).2 (gm_it k pc).1 L st h = _
  rw [e]
  exact h1
theorem gm_G.mono {k pc : Nat} {L : gm_L} {st : List Value} {h : hh_T} {Q Q' : Option Value ⊕ Nat → hh_T → Prop} (H : gm_G k pc L st h Q) (hq : ∀ r h', Q r h' → Q' r h') : gm_G k pc L st h Q' := by
  obtain ⟨n, r, h', h1, h2⟩ := H
  exact ⟨n, r, h', h1, hq r h' h2⟩
/-- one way on -/
theorem gm_G_one {k pc len pc' : Nat} {ins : Instr} {L L' : gm_L} {st st' : List Value} {h h1 : hh_T} {Q : Option Value ⊕ Nat → hh_T → Prop} (e : gm_it k pc = (ins, len)) (H : gm_G k pc' L' st' h1 Q) (hs : ∀ K : gm_K, gm_stI K k pc len ins L st h = K k pc' L' st' h1) : gm_G k pc L st h Q := by
  obtain ⟨n, r, h', a1, a2⟩ := H
  exact gm_G_of e ⟨n, (r, h'), by rw [hs]; exact a1, a2⟩
/-- a way out -/
theorem gm_G_end {k pc len : Nat} {ins : Instr} {L : gm_L} {st : List Value} {h h1 : hh_T} {r : Option Value ⊕ Nat} {Q : Option Value ⊕ Nat → hh_T → Prop} (e : gm_it k pc = (ins, len)) (H : Q r h1) (hs : ∀ K : gm_K, gm_stI K k pc len ins L st h = some (r, h1)) : gm_G k pc L st h Q :=
  gm_G_of e ⟨0, (r, h1), hs _, H⟩
