/-! STAGE 3: copies of a new block get places; a double is looked for -/
section TPc
variable {h : hh_T} {m : Nat} {Q : Option Value ⊕ Nat → hh_T → Prop} {P : zP} {G : zG} {U : List zB}
theorem zl_cp_eq (P : zP) (G : zG) (U : List zB) (k n : Nat) : zl_cp P G U k n = (match zl_ch P G U k none with
  | none => none
  | some g => (match zl_fr G U g (zg_sp G g k) with
    | none => none
    | some p => if n < 2 then some [(g, p)] else (match (zl_ch P G ((0, k, [(g, p)], 0, none) :: U) k (some g)).orElse (fun _ => zl_ch P G ((0, k, [(g, p)], 0, none) :: U) k none) with
      | none => none
      | some g2 => (match zl_fr G ((0, k, [(g, p)], 0, none) :: U) g2 (zg_sp G g2 k) with
        | none => none
        | some p2 => some [(g, p), (g2, p2)])))) := rfl
/-- what is asked of copies -/
def zcp_ok (G : zG) (U : List zB) (k : Nat) (cp : List (Nat × Nat)) : Prop := 1 ≤ cp.length ∧ cp.length ≤ 2 ∧ (∀ c, c ∈ cp → c.1 < zg_ng G ∧ c.2 + zg_sp G c.1 k ≤ zg_pl G c.1) ∧ zl_tk G U (cp.headD (0, 0)).1 (cp.headD (0, 0)).2 = false
theorem zl_tk_p {g a k : Nat} (g' x : Nat) : zl_tk G ((0, k, [(g, a)], 0, none) :: U) g' x = ((decide (g = g') && decide (a ≤ x) && decide (x < a + zg_sp G g' k)) || zl_tk G U g' x) := by
  rw [zl_tk_c]
  show (((decide (g = g') && decide (a ≤ x) && decide (x < a + zg_sp G g' k)) || false) || _) = _
  rw [Bool.or_false]
theorem t_pb_cps {x k n co : Nat} {sh : Bool} (hT : tw_ok h m) (R : rT_G h m G) (RP : rT_P h m P) (K : zg_ok P G) (T : tkd h m G U) (hx : x < 640) (hk1 : 1 ≤ k) (hk4 : k ≤ 4) (hn1 : 1 ≤ n) (hn2 : n ≤ 2) (e21 : hh_i h (m + 21) x = (Int32.ofNat k))
    (H0 : zl_cp P G U k n = none → ∀ h', fr (tO m [22, 23, 24, 27] []) h h' → (∀ p, ¬ p = x → hh_i h' (m + 22) p = hh_i h (m + 22) p) → (∀ y, ¬ y / 2 = x → hh_i h' (m + 23) y = hh_i h (m + 23) y ∧ hh_i h' (m + 24) y = hh_i h (m + 24) y) → Q (.inl (some (.int (Int32.ofNat 0)))) h')
    (H1 : ∀ cp, zl_cp P G U k n = some cp → ∀ h', fr (tO m [22, 23, 24, 27] []) h h' → (∀ p, ¬ p = x → hh_i h' (m + 22) p = hh_i h (m + 22) p) → (∀ y, ¬ y / 2 = x → hh_i h' (m + 23) y = hh_i h (m + 23) y ∧ hh_i h' (m + 24) y = hh_i h (m + 24) y) → hh_i h' (m + 22) x = (Int32.ofNat (cp.length)) → (∀ c, c < cp.length → hh_i h' (m + 23) (2 * x + c) = (Int32.ofNat ((cp.getD c (0, 0)).1)) ∧ hh_i h' (m + 24) (2 * x + c) = (Int32.ofNat ((cp.getD c (0, 0)).2))) → zcp_ok G U k cp → (∀ B, zb_k B = k → zb_cp B = cp → tkd h' m G (B :: U)) → gm_G 408 439 [some (.ref m), none, none, none, none, some (.int (Int32.ofNat co)), none, some (.int (Int32.ofNat k)), some (.int (bi sh)), some (.int (Int32.ofNat x)), some (.int (Int32.ofNat n)), some (.int (Int32.ofNat n))] [] h' Q) :
    gm_G 408 439 [some (.ref m), none, none, none, none, some (.int (Int32.ofNat co)), none, some (.int (Int32.ofNat k)), some (.int (bi sh)), some (.int (Int32.ofNat x)), some (.int (Int32.ofNat n)), some (.int (Int32.ofNat 0))] [] h Q := by
  rw [zl_cp_eq] at H0 H1
  refine w_408_439 hT ⟨fun z => absurd (by rw [i_lt (by decide) (by omega)]; omega) z, fun _ => ⟨fun _ => ?_, fun z => absurd z (by decide)⟩⟩
  refine w_408_468 hT ?_
  refine t_chooseGroup (but := none) hT R RP K T hk4 (fun b e => by cases e) ?_
  cases u : zl_ch P G U k none with
  | none =>
    rw [u] at H0
    refine ⟨fun z => absurd (by decide) z, fun _ => ⟨fun _ => ?_, fun z => absurd z (by decide)⟩⟩
    exact w_408_493 hT ⟨fun z => absurd (by decide) z, fun _ => H0 rfl h (fr.refl _ _) (fun _ _ => rfl) (fun _ _ => ⟨rfl, rfl⟩)⟩
  | some g =>
    rw [u] at H0 H1
    (try dsimp only at H0 H1)
    obtain ⟨hg, a, ha⟩ := zl_ch_ok u
    rw [ha] at H0 H1
    (try dsimp only at H0 H1)
    have hng := K.1
    refine ⟨fun _ => ?_, fun z => absurd z (by show ¬ (Int32.ofNat g) < (Int32.ofNat 0); rw [i_n0 (by omega)]; exact id)⟩
    refine t_pb_493 hT R K T hx hk4 e21 (by decide) hg ha (fun h1 g1 c22 c2 e22 e23 e24 T1 => ?_)
    obtain ⟨z2, z3⟩ := zl_fr_ok ha
    have hT1 := hT.fr g1
    have hkey : zl_tk G U g a = false := z3 0 (by have := zg_sp_pos (P := P) (G := G) (g := g) hk1; omega)
    by_cases y : n < 2
    · have en : n = 1 := by omega
      rw [if_pos y] at H1
      rw [en] at H1 ⊢
      refine H1 [(g, a)] rfl h1 g1 c22 (fun q hq => c2 q (fun e => hq (by omega))) e22 (fun c hc => ?_) ⟨Nat.le_refl 1, Nat.le_succ 1, fun c hc => ?_, hkey⟩ (fun B hB1 hB2 => T1 _ (fun g' q => ?_))
      · have hc : c = 0 := by have : c < 1 := hc; omega
        subst hc
        exact ⟨e23, e24⟩
      · rw [List.mem_singleton] at hc
        subst hc
        exact ⟨hg, z2⟩
      · rw [zl_tk_c, hB1, hB2]
        show (((decide (g = g') && decide (a ≤ q) && decide (q < a + zg_sp G g' k)) || false) || _) = _
        rw [Bool.or_false]
    · have en : n = 2 := by omega
      rw [if_neg y] at H0 H1
      subst en
      have T1' := T1 _ (fun g' q => zl_tk_p (G := G) (U := U) (g := g) (a := a) (k := k) g' q)
      have f21 : hh_i h1 (m + 21) x = (Int32.ofNat k) := by rw [g1.arr (o := 21) rfl]; exact e21
      have R1 : rT_G h1 m G := R.fr g1 rfl rfl
      have RP1 : rT_P h1 m P := RP.fr g1 rfl rfl
      refine w_408_439 hT1 ⟨fun z => absurd (by decide) z, fun _ => ⟨fun z => absurd rfl z, fun _ => ⟨2 * x, by rw [i_mul]; exact ix_n (by omega) (by omega), ?_⟩⟩⟩
      rw [show hh_i h1 (m + 23) (2 * x) = (Int32.ofNat g) from e23]
      -- the end of both ways
      have go : ∀ g2, (zl_ch P G ((0, k, [(g, a)], 0, none) :: U) k (some g)).orElse (fun _ => zl_ch P G ((0, k, [(g, a)], 0, none) :: U) k none) = some g2 → g2 < zg_ng G → (∃ a2, zl_fr G ((0, k, [(g, a)], 0, none) :: U) g2 (zg_sp G g2 k) = some a2) → gm_G 408 493 [some (.ref m), none, none, none, none, some (.int (Int32.ofNat co)), none, some (.int (Int32.ofNat k)), some (.int (bi sh)), some (.int (Int32.ofNat x)), some (.int (Int32.ofNat 2)), some (.int (Int32.ofNat 1)), some (.int (Int32.ofNat g2))] [] h1 Q := by
        intro g2 e hg2 ha2
        obtain ⟨a2, ha2⟩ := ha2
        rw [e] at H1
        (try dsimp only at H1)
        rw [ha2] at H1
        (try dsimp only at H1)
        obtain ⟨y2, -⟩ := zl_fr_ok ha2
        refine t_pb_493 hT1 R1 K T1' hx hk4 f21 (by decide) hg2 ha2 (fun h2 g3 d22 d2 f22 f23 f24 T2 => ?_)
        refine H1 [(g, a), (g2, a2)] rfl h2 (g1.trans g3) (fun p hp => (d22 p hp).trans (c22 p hp)) (fun q hq => ⟨((d2 q (fun e => hq (by omega))).1).trans (c2 q (fun e => hq (by omega))).1, ((d2 q (fun e => hq (by omega))).2).trans (c2 q (fun e => hq (by omega))).2⟩) f22 (fun c hc => ?_) ⟨Nat.le_succ 1, Nat.le_refl 2, fun c hc => ?_, hkey⟩ (fun B hB1 hB2 => T2 _ (fun g' q => ?_))
        · have hc : c < 2 := hc
          by_cases c0 : c = 0
          · subst c0
            exact ⟨((d2 (2 * x + 0) (by omega)).1).trans e23, ((d2 (2 * x + 0) (by omega)).2).trans e24⟩
          · have c1 : c = 1 := by omega
            subst c1
            exact ⟨f23, f24⟩
        · rw [List.mem_cons, List.mem_singleton] at hc
          rcases hc with hc | hc <;> subst hc
          · exact ⟨hg, z2⟩
          · exact ⟨hg2, y2⟩
        · rw [zl_tk_c, hB1, hB2, zl_tk_p]
          show (((decide (g = g') && decide (a ≤ q) && decide (q < a + zg_sp G g' k)) || ((decide (g2 = g') && decide (a2 ≤ q) && decide (q < a2 + zg_sp G g' k)) || false)) || _) = _
          rw [Bool.or_false, ← Bool.or_assoc, Bool.or_comm (decide (g = g') && decide (a ≤ q) && decide (q < a + zg_sp G g' k))]
      refine w_408_468 hT1 ?_
      refine t_chooseGroup (but := some g) hT1 R1 RP1 K T1' hk4 (fun b e => by cases e; omega) ?_
      cases u2 : zl_ch P G ((0, k, [(g, a)], 0, none) :: U) k (some g) with
      | some g2 =>
        obtain ⟨hg2, ha2⟩ := zl_ch_ok u2
        refine ⟨fun _ => go g2 (by rw [u2]; rfl) hg2 ha2, fun z => absurd z (by show ¬ (Int32.ofNat g2) < (Int32.ofNat 0); rw [i_n0 (by omega)]; exact id)⟩
      | none =>
        refine ⟨fun z => absurd (by decide) z, fun _ => ⟨fun z => absurd rfl z, fun _ => ?_⟩⟩
        refine t_chooseGroup (but := none) hT1 R1 RP1 K T1' hk4 (fun b e => by cases e) ?_
        show gm_G 408 493 _ [] h1 Q
        cases u3 : zl_ch P G ((0, k, [(g, a)], 0, none) :: U) k none with
        | some g2 =>
          obtain ⟨hg2, ha2⟩ := zl_ch_ok u3
          exact go g2 (by rw [u2, u3]; rfl) hg2 ha2
        | none =>
          have e0 : (zl_ch P G ((0, k, [(g, a)], 0, none) :: U) k (some g)).orElse (fun _ => zl_ch P G ((0, k, [(g, a)], 0, none) :: U) k none) = none := by rw [u2, u3]; rfl
          rw [e0] at H0
          exact w_408_493 hT1 ⟨fun z => absurd (by decide) z, fun _ => H0 rfl h1 g1 c22 (fun q hq => c2 q (fun e => hq (by omega)))⟩
end TPc
section TPd
variable {h : hh_T} {m : Nat} {Q : Option Value ⊕ Nat → hh_T → Prop} {G : zG} {U : List zB} {β : Nat → zB}
/-- what a double must be -/
def zl_db (c k : Nat) (l : zBy) (b : zB) : Bool := decide (zb_co b = c) && decide (zb_k b = k) && decide (zb_sh b = some l)
theorem zl_db_t {c k : Nat} {l : zBy} {b : zB} : zl_db c k l b = true ↔ zb_co b = c ∧ zb_k b = k ∧ zb_sh b = some l := by
  unfold zl_db
  rw [Bool.and_eq_true, Bool.and_eq_true, decide_eq_true_eq, decide_eq_true_eq, decide_eq_true_eq]
  exact and_assoc
theorem t_pb_dbl {i c k : Nat} {l : zBy} {sh : Bool} (hT : tw_ok h m) (t : tpt h m G U β) (hc : c ≤ 2) (hk4 : k ≤ 4) (hl : l.length = 8 * k) (hcd : ta_c h (m + 28) l)
    (H0 : (if sh then U.find? (zl_db c k l) else none) = none → gm_G 408 382 [some (.ref m), none, none, some (.int (Int32.ofNat i)), none, some (.int (Int32.ofNat c)), none, some (.int (Int32.ofNat k)), some (.int (bi sh))] [] h Q)
    (H1 : ∀ x, x < 640 → hh_i h (m + 18) x = (Int32.ofNat 1) → (if sh then U.find? (zl_db c k l) else none) = some (β x) → ∃ n1, gm_ix (hh_i h m 41) n1 136 ∧ ∀ h2, h2 = hh_wi h (m + 30) n1 (Int32.ofNat x) → ∀ h3, h3 = hh_wi h2 m 41 (hh_i h2 m 41 + (Int32.ofNat 1)) → ∀ h4, h4 = hh_wi h3 m 43 (hh_i h3 m 43 + (Int32.ofNat 1)) → Q (.inl (some (.int (Int32.ofNat 1)))) h4) :
    gm_G 408 206 [some (.ref m), none, none, some (.int (Int32.ofNat i)), none, some (.int (Int32.ofNat c)), none, some (.int (Int32.ofNat k))] [.int (bi sh)] h Q := by
  refine w_408_206 hT ?_
  cases sh with
  | false => exact w_408_211 hT ⟨fun _ => H0 rfl, fun z => absurd rfl z⟩
  | true =>
    rw [if_pos rfl] at H0 H1
    have lp : ∀ d x, x + d = 640 → (∀ p, p < x → hh_i h (m + 18) p = (Int32.ofNat 1) → zl_db c k l (β p) = false) → gm_G 408 211 [some (.ref m), none, none, some (.int (Int32.ofNat i)), none, some (.int (Int32.ofNat c)), none, some (.int (Int32.ofNat k)), some (.int (bi true)), some (.int (Int32.ofNat x))] [] h Q := by
      intro d
      induction d with
      | zero =>
        intro x ex hp
        have ex : x = 640 := by omega
        subst ex
        refine w_408_211 hT ⟨fun z => absurd z (by decide), fun _ => ⟨fun _ => H0 ?_, fun z => absurd z (by decide)⟩⟩
        rw [List.find?_eq_none]
        intro b hb
        obtain ⟨p, p1, p2, p3⟩ := t.2.1 b hb
        rw [← p3, hp p p1 p2]
        decide
      | succ d ih =>
        intro x ex hp
        have hx : x < 640 := by omega
        have nx : (hh_i h (m + 18) x = (Int32.ofNat 1) → zl_db c k l (β x) = false) → gm_G 408 376 [some (.ref m), none, none, some (.int (Int32.ofNat i)), none, some (.int (Int32.ofNat c)), none, some (.int (Int32.ofNat k)), some (.int (bi true)), some (.int (Int32.ofNat x))] [] h Q := fun e => by
          refine w_408_376 hT ?_
          rw [i_add]
          refine ih (x + 1) (by omega) (fun p h1 h2 => ?_)
          by_cases y : p = x
          · subst y; exact e h2
          · exact hp p (by omega) h2
        refine w_408_211 hT ⟨fun z => absurd z (by decide), fun _ => ⟨fun z => absurd (by rw [i_lt (by omega) (by decide)]; exact hx) z, fun _ => ⟨x, ix_n hx (by omega), ?_⟩⟩⟩
        rcases t.1 x hx with ⟨q1, q2, q3, q4, q5⟩ | ⟨q1, q2⟩
        · obtain ⟨b1, b2, b3, b4, b5, b6, b7, b8, b9, b10, b11, b12⟩ := id q3
          refine ⟨fun z => absurd (q2.symm.trans z) (by decide), fun _ => ⟨x, ix_n hx (by omega), fun z => absurd (q1.symm.trans z) (by decide), fun _ => ⟨x, ix_n hx (by omega), ?_⟩⟩⟩
          rw [b11]
          cases us : zb_sh (β x) with
          | none =>
            refine ⟨fun _ => nx (fun _ => ?_), fun z => absurd rfl z⟩
            cases y : zl_db c k l (β x) with
            | false => rfl
            | true => rw [zl_db_t, us] at y; cases y.2.2
          | some l' =>
            refine ⟨fun z => absurd z (show ¬ bi true = (Int32.ofNat 0) by decide), fun _ => ⟨x, ix_n hx (by omega), fun z => nx (fun _ => ?_), fun z1 => ⟨x, ix_n hx (by omega), ?_⟩⟩⟩
            · cases y : zl_db c k l (β x) with
              | false => rfl
              | true => rw [zl_db_t] at y; exact absurd (by rw [b1, y.1]) z
            · rw [b1] at z1
              have z1 : zb_co (β x) = c := (i_eq (by omega) (by omega)).mp z1
              refine ⟨fun z2 => ?_, fun z => nx (fun _ => ?_)⟩
              · rw [b3] at z2
                have z2 : zb_k (β x) = k := (i_eq (by omega) (by omega)).mp z2
                obtain ⟨n1, n2⟩ := b12 l' us
                -- bytes are compared
                have li : ∀ e j (s : Bool), j + e = 8 * k → (s = true ↔ ∀ y, y < j → lf l' y = lf l y) → gm_G 408 287 [some (.ref m), none, none, some (.int (Int32.ofNat i)), none, some (.int (Int32.ofNat c)), none, some (.int (Int32.ofNat k)), some (.int (bi true)), some (.int (Int32.ofNat x)), some (.int (bi s)), some (.int (Int32.ofNat j))] [] h Q := by
                  intro e
                  induction e with
                  | zero =>
                    intro j s ej hs
                    have ej : j = 8 * k := by omega
                    refine w_408_287 hT ⟨fun _ => ⟨fun z => nx (fun _ => ?_), fun z => ?_⟩, fun z => absurd z (by rw [i_mul, i_lt (by omega) (by omega)]; omega)⟩
                    · cases y : zl_db c k l (β x) with
                      | false => rfl
                      | true =>
                        rw [zl_db_t, us] at y
                        have e2 : l' = l := Option.some.inj y.2.2
                        have : s = true := hs.mpr (fun y _ => by rw [e2])
                        rw [this] at z
                        exact absurd z (by decide)
                    · have st : s = true := by cases s with
                        | true => rfl
                        | false => exact absurd rfl z
                      have e2 : l' = l := by
                        refine List.ext_getElem (by omega) (fun y h1 h2 => ?_)
                        have := hs.mp st y (by omega)
                        unfold lf at this
                        rw [List.getD_eq_getElem?_getD, List.getElem?_eq_getElem h1, List.getD_eq_getElem?_getD, List.getElem?_eq_getElem h2] at this
                        exact this
                      refine H1 x hx q1 ?_
                      have hd : zl_db c k l (β x) = true := zl_db_t.mpr ⟨z1, z2, by rw [us, e2]⟩
                      cases fd : U.find? (zl_db c k l) with
                      | none => rw [List.find?_eq_none] at fd; exact absurd hd (fd _ q5)
                      | some b =>
                        have hb := List.mem_of_find?_eq_some fd
                        have hb2 := zl_db_t.mp (List.find?_some fd)
                        rw [t.2.2.2.2 b (β x) hb q5 (hb2.1.trans z1.symm) (hb2.2.1.trans z2.symm) (hb2.2.2.trans (by rw [us, e2])) (by rw [hb2.2.2]; rfl)]
                  | succ e ih2 =>
                    intro j s ej hs
                    have e26 : hh_i h (m + 26) (32 * x + j) = lf l' j := n2 j (by omega)
                    have e28 : hh_i h (m + 28) j = lf l j := hcd j (by omega)
                    refine w_408_287 hT ⟨fun z => absurd (by rw [i_mul, i_lt (by omega) (by omega)]; omega) z, fun _ => ⟨fun z => w_408_329 hT (w_408_330 hT ?_), fun z => ⟨32 * x + j, by rw [i_mul, i_add]; exact ix_n (by omega) (by omega), j, ix_n (by omega) (by omega), fun z2 => w_408_329 hT (w_408_330 hT ?_), fun z2 => w_408_330 hT ?_⟩⟩⟩
                    · have sf : s = false := by cases s with
                        | false => rfl
                        | true => exact absurd z (by decide)
                      rw [i_add]
                      refine ih2 (j + 1) false (by omega) ⟨fun y => absurd y (by decide), fun y => ?_⟩
                      have := hs.mpr (fun q hq => y q (by omega))
                      rw [sf] at this
                      exact this
                    · rw [i_add]
                      refine ih2 (j + 1) false (by omega) ⟨fun y => absurd y (by decide), fun y => absurd (y j (by omega)) (by rw [← e26, ← e28]; exact z2)⟩
                    · have st : s = true := by cases s with
                        | true => rfl
                        | false => exact absurd rfl z
                      rw [i_add]
                      refine ih2 (j + 1) true (by omega) ⟨fun _ q hq => ?_, fun _ => rfl⟩
                      by_cases y : q = j
                      · subst y; rw [← e26, ← e28]; exact z2
                      · exact hs.mp st q (by omega)
                exact li (8 * k) 0 true (by omega) ⟨fun _ q hq => absurd hq (Nat.not_lt_zero _), fun _ => rfl⟩
              · cases y : zl_db c k l (β x) with
                | false => rfl
                | true => rw [zl_db_t] at y; exact absurd (by rw [b3, y.2.1]) z
        · refine ⟨fun _ => nx (fun e => ?_), fun z => absurd q2 z⟩
          rw [q1] at e
          exact absurd e (by decide)
    exact lp 640 0 rfl (fun p hp => absurd hp (Nat.not_lt_zero _))
end TPd
