/-! STAGE 3: the twin finds places -/
section TPl
variable {h : hh_T} {m : Nat} {Q : Option Value ⊕ Nat → hh_T → Prop} {P : zP} {G : zG} {g : Nat} {U : List zB}
/-- taken places as marked -/
def tkd (h : hh_T) (m : Nat) (G : zG) (U : List zB) : Prop := ∀ g x, g < 3 → x < 384 → hh_i h (m + 27) (384 * g + x) = bi (zl_tk G U g x)
theorem zg_pl_le (K : zg_ok P G) (hg : g < zg_ng G) : zg_pl G g ≤ 384 := by
  obtain ⟨c1, c2, c3, c4, -⟩ := K.2.1 g hg
  unfold zg_pl
  split
  · exact Nat.le_trans (Nat.mul_le_mul c2 c4) (by decide)
  · omega
theorem t_freePlaces (hT : tw_ok h m) (R : rT_G h m G) (K : zg_ok P G) (hg : g < zg_ng G) (T : tkd h m G U) (H : Q (.inl (some (.int (Int32.ofNat (zl_nf G U g))))) h) : gm_G 279 0 [some (.ref m), some (.int (Int32.ofNat g))] [] h Q := by
  have k0 := K.1
  have hpl := zg_pl_le K hg
  have lp : ∀ d x, x + d = zg_pl G g → gm_G 279 4 [some (.ref m), some (.int (Int32.ofNat g)), some (.int (Int32.ofNat ((fc (fun p => !(zl_tk G U g p)) x)))), some (.int (Int32.ofNat x))] [] h Q := by
    intro d
    induction d with
    | zero =>
      intro x ex
      have ex : x = zg_pl G g := by omega
      refine w_279_4 hT ?_
      refine t_places hT R K hg ?_
      refine ⟨fun _ => ?_, fun z => absurd z (by rw [i_lt (by omega) (by omega)]; omega)⟩
      rw [ex]
      exact H
    | succ d ih =>
      intro x ex
      have hs := fc_S (fun p => !(zl_tk G U g p)) x
      have t := T g x (by omega) (by omega)
      refine w_279_4 hT ?_
      refine t_places hT R K hg ?_
      refine ⟨fun z => absurd (by rw [i_lt (by omega) (by omega)]; omega) z, fun _ => ⟨384 * g + x, by rw [i_mul, i_add]; exact ix_n (by omega) (by omega), ?_⟩⟩
      rw [t]
      have := ih (x + 1) (by omega)
      rw [hs] at this
      cases u : zl_tk G U g x with
      | true =>
        rw [u] at this
        refine ⟨fun z => absurd z (by decide), fun _ => w_279_34 hT ?_⟩
        rw [i_add, i_add]
        exact this
      | false =>
        rw [u] at this
        refine ⟨fun _ => w_279_34 hT ?_, fun z => absurd rfl z⟩
        rw [i_add, i_add]
        exact this
  exact w_279_0 hT (lp _ 0 (Nat.zero_add _))
theorem t_freeRow {t : Nat} (hT : tw_ok h m) (R : rT_G h m G) (K : zg_ok P G) (hg : g < zg_ng G) (T : tkd h m G U) (ht : t ≤ 100) (H : Q (.inl (some (.int (oi (Int32.ofInt (-1)) (zl_fr G U g t))))) h) : gm_G 280 0 [some (.ref m), some (.int (Int32.ofNat g)), some (.int (Int32.ofNat t))] [] h Q := by
  have k0 := K.1
  have hpl := zg_pl_le K hg
  unfold zl_fr at H
  have lp : ∀ d a, a + d = zg_pl G g + 1 - t → ffi (fun a => (List.range t).all (fun n => !(zl_tk G U g (a + n)))) (zg_pl G g + 1 - t) 0 = ffi (fun a => (List.range t).all (fun n => !(zl_tk G U g (a + n)))) d a → a ≤ 1000 → gm_G 280 2 [some (.ref m), some (.int (Int32.ofNat g)), some (.int (Int32.ofNat t)), some (.int (Int32.ofNat a))] [] h Q := by
    intro d
    induction d with
    | zero =>
      intro a ea ef ha
      rw [ef] at H
      refine w_280_2 hT ?_
      refine t_places hT R K hg ?_
      refine ⟨fun _ => H, fun z => absurd ?_ z⟩
      rw [i_add, i_lt (by omega) (by omega)]
      omega
    | succ d ih =>
      intro a ea ef ha
      rw [ffi_S] at ef
      have l2 : ∀ e x, x + e = t → (∀ n, n < x → zl_tk G U g (a + n) = false) → gm_G 280 16 [some (.ref m), some (.int (Int32.ofNat g)), some (.int (Int32.ofNat t)), some (.int (Int32.ofNat a)), some (.int (Int32.ofNat x))] [] h Q := by
        intro e
        induction e with
        | zero =>
          intro x ex hx
          have ex : x = t := by omega
          subst ex
          refine w_280_16 hT ⟨fun _ => ?_, fun z => absurd z (by rw [i_lt (by omega) (by omega)]; omega)⟩
          refine w_280_46 hT ⟨fun z => absurd rfl z, fun _ => ?_⟩
          rw [if_pos (all_yes fun i hi => by rw [hx i hi]; rfl)] at ef
          rw [ef] at H
          exact H
        | succ e ih2 =>
          intro x ex hx
          have t' := T g (a + x) (by omega) (by omega)
          refine w_280_16 hT ⟨fun z => absurd (by rw [i_lt (by omega) (by omega)]; omega) z, fun _ => ⟨384 * g + (a + x), by rw [i_mul, i_add, i_add, Nat.add_assoc]; exact ix_n (by omega) (by omega), ?_⟩⟩
          rw [t']
          cases u : zl_tk G U g (a + x) with
          | true =>
            refine ⟨fun _ => ?_, fun z => absurd z (by decide)⟩
            refine w_280_46 hT ⟨fun _ => ?_, fun z => absurd ((i_eq (by omega) (by omega)).mp z) (by omega)⟩
            rw [i_add]
            rw [if_neg (all_no (i := x) (by omega) (by rw [u]; rfl))] at ef
            exact ih (a + 1) (by omega) ef (by omega)
          | false =>
            refine ⟨fun z => absurd rfl z, fun _ => ?_⟩
            rw [i_add]
            refine ih2 (x + 1) (by omega) (fun n hn => ?_)
            by_cases y : n = x
            · rw [y]; exact u
            · exact hx n (by omega)
      refine w_280_2 hT ?_
      refine t_places hT R K hg ?_
      refine ⟨fun z => absurd z ?_, fun _ => l2 t 0 (Nat.zero_add _) (fun n hn => absurd hn (Nat.not_lt_zero _))⟩
      rw [i_add, i_lt (by omega) (by omega)]
      omega
  exact w_280_0 hT (lp _ 0 (Nat.zero_add _) rfl (by omega))
theorem zg_sp_le (K : zg_ok P G) (hg : g < zg_ng G) {k : Nat} (hk : k ≤ 4) : zg_sp G g k ≤ 100 := by
  obtain ⟨c1, c2, c3, c4, c5, -⟩ := K.2.1 g hg
  unfold zg_sp
  split
  · rename_i hp
    obtain ⟨d1, d2, d3⟩ := c5 hp
    have h1 : (k + (zg_many G g - zg_chk G g) - 1) / (zg_many G g - zg_chk G g) ≤ 9 := Nat.le_trans (Nat.div_le_self ..) (by omega)
    have h2 := Nat.mul_le_mul d2 h1
    omega
  · omega
theorem t_chooseGroup {k : Nat} {but : Option Nat} (hT : tw_ok h m) (R : rT_G h m G) (RP : rT_P h m P) (K : zg_ok P G) (T : tkd h m G U) (hk : k ≤ 4) (hbut : ∀ b, but = some b → b < 3) (H : Q (.inl (some (.int (oi (Int32.ofInt (-1)) (zl_ch P G U k but))))) h) : gm_G 365 0 [some (.ref m), some (.int (Int32.ofNat k)), some (.int (oi (Int32.ofInt (-1)) but))] [] h Q := by
  have k0 := K.1
  have e19 := R.1
  obtain ⟨F, hF⟩ : ∃ F : Option Nat → Nat → Option Nat, F = (fun best g => if some g = but ∨ zg_fit P G g = false ∨ zl_fr G U g (zg_sp G g k) = none then best else (match best with
    | none => some g
    | some b => if zl_nf G U b < zl_nf G U g then some g else some b)) := ⟨_, rfl⟩
  have eH : zl_ch P G U k but = (List.range (zg_ng G)).foldl F none := by rw [hF]; rfl
  rw [eH] at H
  have lp : ∀ d g best, g + d = zg_ng G → best = (List.range g).foldl F none → (∀ b, best = some b → b < g) → gm_G 365 5 [some (.ref m), some (.int (Int32.ofNat k)), some (.int (oi (Int32.ofInt (-1)) but)), some (.int (oi (Int32.ofInt (-1)) best)), some (.int (Int32.ofNat g))] [] h Q := by
    intro d
    induction d with
    | zero =>
      intro g best eg eb hb
      have eg : g = zg_ng G := by omega
      rw [eg] at eb ⊢
      refine w_365_5 hT ⟨fun _ => ?_, fun z => absurd z (by rw [e19, i_lt (by omega) (by omega)]; omega)⟩
      rw [eb]
      exact H
    | succ d ih =>
      intro g best eg eb hb
      have hg : g < zg_ng G := by omega
      have es : (List.range (g + 1)).foldl F none = F best g := by rw [List.range_succ, List.foldl_append, ← eb]; rfl
      have nx : ∀ b', b' = F best g → (∀ b, b' = some b → b < g + 1) → gm_G 365 69 [some (.ref m), some (.int (Int32.ofNat k)), some (.int (oi (Int32.ofInt (-1)) but)), some (.int (oi (Int32.ofInt (-1)) b')), some (.int (Int32.ofNat g))] [] h Q := by
        intro b' e' hb'
        refine w_365_69 hT ?_
        rw [i_add]
        exact ih (g + 1) b' (by omega) (e'.trans es.symm) hb'
      have keep : (some g = but ∨ zg_fit P G g = false ∨ zl_fr G U g (zg_sp G g k) = none) → gm_G 365 69 [some (.ref m), some (.int (Int32.ofNat k)), some (.int (oi (Int32.ofInt (-1)) but)), some (.int (oi (Int32.ofInt (-1)) best)), some (.int (Int32.ofNat g))] [] h Q := fun z => nx best (by rw [hF]; dsimp only; rw [if_pos z]) (fun b e => by have := hb b e; omega)
      refine w_365_5 hT ⟨fun z => absurd (by rw [e19, i_lt (by omega) (by omega)]; exact hg) z, fun _ => ⟨fun z => ?_, fun z => ?_⟩⟩
      · refine keep (Or.inl ?_)
        cases u : but with
        | none =>
          rw [u] at z
          have z : (Int32.ofNat g) = Int32.ofInt (-1) := z
          have h1 : (Int32.ofNat g) < (Int32.ofNat 0) := by rw [z]; decide
          rw [i_n0 (by omega)] at h1
          exact h1.elim
        | some b =>
          rw [u] at z
          rw [(i_eq (a := g) (b := b) (by omega) (by have := hbut b u; omega)).mp z]
      have nb : ¬ some g = but := fun y => by rw [← y] at z; exact z rfl
      refine t_isFit hT R RP K hg ?_
      cases hfit : zg_fit P G g with
      | false => exact ⟨fun _ => keep (Or.inr (Or.inl hfit)), fun z => absurd rfl z⟩
      | true =>
        refine ⟨fun z => absurd z (by decide), fun _ => ?_⟩
        refine t_room hT R K hg (by omega) ?_
        have hsp := zg_sp_le K hg hk
        refine t_freeRow hT R K hg T hsp ?_
        cases hfr : zl_fr G U g (zg_sp G g k) with
        | none => exact ⟨fun z => absurd (by decide) z, fun _ => keep (Or.inr (Or.inr hfr))⟩
        | some a =>
          have ha : a < 1000 := by
            unfold zl_fr at hfr
            have := (ffi_lt hfr).2.1
            have := zg_pl_le K hg
            omega
          have no : ¬ (some g = but ∨ zg_fit P G g = false ∨ zl_fr G U g (zg_sp G g k) = none) := by
            rintro (y | y | y)
            · exact nb y
            · rw [hfit] at y; cases y
            · rw [hfr] at y; cases y
          refine ⟨fun _ => ?_, fun z => absurd z ?_⟩
          · cases u : best with
            | none =>
              refine ⟨fun _ => w_365_66 hT (nx (some g) ?_ (fun b e => by cases e; omega)), fun z => absurd (by decide) z⟩
              rw [hF]; dsimp only
              rw [if_neg no, u]
            | some b =>
              have hbg := hb b u
              refine ⟨fun z => absurd z (by show ¬ (Int32.ofNat b) < (Int32.ofNat 0); rw [i_n0 (by omega)]; exact id), fun _ => ?_⟩
              have hn1 : ∀ g, g < zg_ng G → zl_nf G U g ≤ 384 := fun g hg => Nat.le_trans (fc_le ..) (zg_pl_le K hg)
              have h1 := hn1 g hg
              have h2 := hn1 b (by omega)
              refine t_freePlaces hT R K hg T ?_
              refine t_freePlaces hT R K (show b < _ by omega) T ?_
              refine ⟨fun y => ?_, fun y => ?_⟩
              · rw [i_lt (by omega) (by omega)] at y
                have := nx (some b) (by rw [hF]; dsimp only; rw [if_neg no, u]; dsimp only; rw [if_neg y]) (fun c e => by cases e; omega)
                exact this
              · rw [i_lt (by omega) (by omega)] at y
                exact w_365_66 hT (nx (some g) (by rw [hF]; dsimp only; rw [if_neg no, u]; dsimp only; rw [if_pos y]) (fun c e => by cases e; omega))
          · show ¬ (Int32.ofNat a) < (Int32.ofNat 0)
            rw [i_n0 (by omega)]
            exact id
  exact w_365_0 hT (lp _ 0 none (Nat.zero_add _) rfl (fun b e => by cases e))
end TPl
