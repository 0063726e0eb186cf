/-! STAGE 3: places and quotas -/
def rsum (f : Nat → Nat) (n : Nat) : Nat := ((List.range n).map f).foldl (fun x y => x + y) 0
theorem rsum_S (f : Nat → Nat) (n : Nat) : rsum f (n + 1) = rsum f n + f n := by
  unfold rsum
  rw [List.range_succ, List.map_append, List.foldl_append]
  rfl
theorem rsum_le {f : Nat → Nat} {B : Nat} : ∀ n, (∀ i, i < n → f i ≤ B) → rsum f n ≤ n * B
  | 0, _ => by show 0 ≤ _; omega
  | n + 1, hf => by
    have h1 := rsum_le n (fun i hi => hf i (by omega))
    have h2 := hf n (by omega)
    rw [rsum_S, Nat.succ_mul]
    omega
theorem zl_bp_eq (G : zG) (b : zB) : zl_bp G b = rsum (fun c => zg_sp G ((zb_cp b).getD c (0, 0)).1 (zb_k b)) (zb_cp b).length := by
  unfold zl_bp rsum
  congr 1
  refine List.ext_getElem (by rw [List.length_map, List.length_map, List.length_range]) (fun i h1 h2 => ?_)
  rw [List.length_map] at h1
  rw [List.getElem_map, List.getElem_map, List.getElem_range, List.getD_eq_getElem?_getD, List.getElem?_eq_getElem h1]
  rfl
section PL
variable {h : hh_T} {m : Nat} {Q : Option Value ⊕ Nat → hh_T → Prop} {P : zP} {G : zG}
theorem zl_bp_le {b : zB} (K : zg_ok P G) (hz : zb_ok G b) (hl : (zb_cp b).length ≤ 2) (hk : zb_k b ≤ 4) : zl_bp G b ≤ 200 := by
  rw [zl_bp_eq]
  have := rsum_le (f := fun c => zg_sp G ((zb_cp b).getD c (0, 0)).1 (zb_k b)) (B := 100) (zb_cp b).length (fun c hc => by
    have ed : (zb_cp b).getD c (0, 0) = (zb_cp b)[c] := by rw [List.getD_eq_getElem?_getD, List.getElem?_eq_getElem hc]; rfl
    (try dsimp only)
    rw [ed]
    exact zg_sp_le K (hz _ (List.getElem_mem hc)).1 hk)
  omega
theorem t_placesOf {p : Nat} {b : zB} (hT : tw_ok h m) (RG : rT_G h m G) (K : zg_ok P G) (hp : p < 640) (B : tb h m p b) (hz : zb_ok G b) (H : Q (.inl (some (.int (Int32.ofNat (zl_bp G b))))) h) : gm_G 294 0 [some (.ref m), some (.int (Int32.ofNat p))] [] h Q := by
  obtain ⟨b1, b2, b3, b4, b5, b6, b7, b8, b9, b10⟩ := id B
  rw [zl_bp_eq] at H
  have lp : ∀ e c, c + e = (zb_cp b).length → gm_G 294 4 [some (.ref m), some (.int (Int32.ofNat p)), some (.int (Int32.ofNat ((rsum (fun c => zg_sp G ((zb_cp b).getD c (0, 0)).1 (zb_k b)) c)))), some (.int (Int32.ofNat c))] [] h Q := by
    intro e
    induction e with
    | zero =>
      intro c ec
      have ec : c = (zb_cp b).length := by omega
      subst ec
      exact w_294_4 hT ⟨p, ix_n hp (by omega), fun _ => H, fun z => absurd z (by rw [b6, i_lt (by omega) (by omega)]; omega)⟩
    | succ e ih =>
      intro c ec
      have hc : c < (zb_cp b).length := by omega
      have ed : (zb_cp b).getD c (0, 0) = (zb_cp b)[c] := by rw [List.getD_eq_getElem?_getD, List.getElem?_eq_getElem hc]; rfl
      have hg := (hz _ (List.getElem_mem hc)).1
      rw [← ed] at hg
      refine w_294_4 hT ⟨p, ix_n hp (by omega), fun z => absurd (by rw [b6, i_lt (by omega) (by omega)]; exact hc) z, fun _ => ⟨2 * p + c, by rw [i_mul, i_add]; exact ix_n (by omega) (by omega), p, ix_n hp (by omega), ?_⟩⟩
      rw [(b9 c hc).1, b3]
      refine t_room hT RG K hg (by omega) ?_
      show gm_G 294 4 _ [] h Q
      rw [i_add, i_add]
      have := ih (c + 1) (by omega)
      rw [rsum_S] at this
      exact this
  exact w_294_0 hT (lp _ 0 (Nat.zero_add _))
def zl_p1 (G : zG) (x : Option zB) : Nat := match x with
  | none => 0
  | some b => zl_bp G b
theorem zl_pp_eq (G : zG) (pt : Nat → Option zB) : zl_pp G pt = rsum (fun k => zl_p1 G (pt k)) 8 := rfl
def zt_u1 (G : zG) (T : zT) (u : Option Nat) (o : Nat) : Nat := match zt_ob T o with
  | none => 0
  | some N => if (zn_at N 0 = 1 ∨ zn_at N 0 = 4) ∧ (u = none ∨ u = some (zn_at N 2)) then zl_pp G (zn_pt N) else 0
theorem zt_used_eq (G : zG) (T : zT) (u : Option Nat) : zt_used G T u = rsum (zt_u1 G T u) 16 := rfl
theorem zl_pp_le {pt : Nat → Option zB} (hp : ∀ k b, k < 8 → pt k = some b → zl_bp G b ≤ 200) : zl_pp G pt ≤ 1600 := by
  rw [zl_pp_eq]
  have := rsum_le (f := fun k => zl_p1 G (pt k)) (B := 200) 8 (fun k hk => by
    (try dsimp only)
    unfold zl_p1
    cases e : pt k with
    | none => exact Nat.zero_le _
    | some b => exact hp k b hk e)
  omega
/-- pointers of an object are sound -/
theorem tn_bp {q : Nat} {N : zN} (K : zg_ok P G) (R : tn h m q N) (hz : ∀ b, b ∈ zu_n N → zb_ok G b) : ∀ k b, k < 8 → zn_pt N k = some b → zl_bp G b ≤ 200 := by
  intro k b hk e
  rcases R.2.2.2.2.2.2.2.2.2.2.2 k hk with ⟨z, -⟩ | ⟨b', p, y1, y2, y3, y4, -⟩
  · rw [e] at z; cases z
  · rw [e] at y1
    cases y1
    exact zl_bp_le K (hz b (List.mem_filterMap.mpr ⟨k, List.mem_range.mpr hk, e⟩)) y4.2.2.2.2.2.2.2.1 y4.2.2.2.2.1
theorem zu_n_t {T : zT} {o : Nat} {N : zN} (ho : o < 16) (e : zt_ob T o = some N) {b : zB} (hb : b ∈ zu_n N) : b ∈ zu_t T := List.mem_flatMap.mpr ⟨o, List.mem_range.mpr ho, by rw [e]; exact hb⟩
theorem t_usedOf {t : Nat} {T : zT} {u : Option Nat} (hT : tw_ok h m) (RG : rT_G h m G) (K : zg_ok P G) (TT : tt h m t T) (hz : ∀ b, b ∈ zu_t T → zb_ok G b) (hu : ∀ x, u = some x → x < 8) (H : zt_used G T u ≤ 25600 → Q (.inl (some (.int (Int32.ofNat (zt_used G T u))))) h) : gm_G 383 0 [some (.ref m), some (.int (Int32.ofNat t)), some (.int (oi (Int32.ofInt (-1)) u))] [] h Q := by
  have ht := TT.1
  have hle : zt_used G T u ≤ 25600 := by
    rw [zt_used_eq]
    have := rsum_le (f := zt_u1 G T u) (B := 1600) 16 (fun o ho => by
      unfold zt_u1
      rcases TT.2.2.2 o ho with ⟨z, -⟩ | ⟨N, z1, z2⟩
      · rw [z]; exact Nat.zero_le _
      · rw [z1]
        (try dsimp only)
        split
        · exact zl_pp_le (tn_bp K z2 (fun b hb => hz b (zu_n_t ho z1 hb)))
        · exact Nat.zero_le _)
    omega
  have H := H hle
  rw [zt_used_eq] at H
  have lp : ∀ e o, o + e = 16 → gm_G 383 8 [some (.ref m), some (.int (Int32.ofNat t)), some (.int (oi (Int32.ofInt (-1)) u)), some (.int (Int32.ofNat ((rsum (zt_u1 G T u) o)))), some (.int (Int32.ofNat ((16 * t + o))))] [] h Q := by
    intro e
    induction e with
    | zero =>
      intro o eo
      have eo : o = 16 := by omega
      subst eo
      exact w_383_8 hT ⟨fun _ => H, fun z => absurd z (by rw [i_mul, i_add, i_lt (by omega) (by omega)]; omega)⟩
    | succ e ih =>
      intro o eo
      have ho : o < 16 := by omega
      have nx : ∀ s, s = rsum (zt_u1 G T u) (o + 1) → gm_G 383 114 [some (.ref m), some (.int (Int32.ofNat t)), some (.int (oi (Int32.ofInt (-1)) u)), some (.int (Int32.ofNat s)), some (.int (Int32.ofNat ((16 * t + o))))] [] h Q := fun s es => by
        refine w_383_114 hT ?_
        rw [i_add, es]
        exact ih (o + 1) (by omega)
      have n0 : zt_u1 G T u o = 0 → gm_G 383 114 [some (.ref m), some (.int (Int32.ofNat t)), some (.int (oi (Int32.ofInt (-1)) u)), some (.int (Int32.ofNat ((rsum (zt_u1 G T u) o)))), some (.int (Int32.ofNat ((16 * t + o))))] [] h Q := fun e0 => nx _ (by rw [rsum_S, e0, Nat.add_zero])
      refine w_383_8 hT ⟨fun z => absurd (by rw [i_mul, i_add, i_lt (by omega) (by omega)]; omega) z, fun _ => ⟨16 * t + o, ix_n (by omega) (by omega), ?_⟩⟩
      rcases TT.2.2.2 o ho with ⟨z, e40⟩ | ⟨N, z1, z2⟩
      · rw [e40]
        refine ⟨fun y => absurd y (by decide), fun _ => ⟨16 * t + o, ix_n (by omega) (by omega), ?_⟩⟩
        rw [e40]
        exact ⟨fun _ => n0 (by unfold zt_u1; rw [z]), fun y => absurd y (by decide)⟩
      · obtain ⟨e40, l40⟩ := z2.1 0 (by decide)
        obtain ⟨e42, l42⟩ := z2.1 2 (by decide)
        have e40 : hh_i h (m + 40) (16 * t + o) = (Int32.ofNat (zn_at N 0)) := e40
        have e42 : hh_i h (m + 42) (16 * t + o) = (Int32.ofNat (zn_at N 2)) := e42
        have l2 := z2.2.2.2.1
        have u1 : zt_u1 G T u o = if (zn_at N 0 = 1 ∨ zn_at N 0 = 4) ∧ (u = none ∨ u = some (zn_at N 2)) then zl_pp G (zn_pt N) else 0 := by unfold zt_u1; rw [z1]
        have go : (zn_at N 0 = 1 ∨ zn_at N 0 = 4) → gm_G 383 42 [some (.ref m), some (.int (Int32.ofNat t)), some (.int (oi (Int32.ofInt (-1)) u)), some (.int (Int32.ofNat ((rsum (zt_u1 G T u) o)))), some (.int (Int32.ofNat ((16 * t + o))))] [] h Q := by
          intro hk
          have sum : (u = none ∨ u = some (zn_at N 2)) → gm_G 383 60 [some (.ref m), some (.int (Int32.ofNat t)), some (.int (oi (Int32.ofInt (-1)) u)), some (.int (Int32.ofNat ((rsum (zt_u1 G T u) o)))), some (.int (Int32.ofNat ((16 * t + o))))] [] h Q := by
            intro hu2
            rw [if_pos ⟨hk, hu2⟩] at u1
            refine w_383_60 hT ?_
            rw [i_mul]
            have li : ∀ e k, k + e = 8 → gm_G 383 67 [some (.ref m), some (.int (Int32.ofNat t)), some (.int (oi (Int32.ofInt (-1)) u)), some (.int (Int32.ofNat ((rsum (zt_u1 G T u) o + rsum (fun k => zl_p1 G (zn_pt N k)) k)))), some (.int (Int32.ofNat ((16 * t + o)))), some (.int (Int32.ofNat ((8 * (16 * t + o) + k))))] [] h Q := by
              intro e
              induction e with
              | zero =>
                intro k ek
                have ek : k = 8 := by omega
                subst ek
                exact w_383_67 hT ⟨fun _ => nx _ (by rw [rsum_S (zt_u1 G T u) o, u1, zl_pp_eq]), fun z => absurd z (by rw [i_mul, i_add, i_lt (by omega) (by omega)]; omega)⟩
              | succ e ih2 =>
                intro k ek
                have := ih2 (k + 1) (by omega)
                rw [rsum_S] at this
                refine w_383_67 hT ⟨fun z => absurd (by rw [i_mul, i_add, i_lt (by omega) (by omega)]; omega) z, fun _ => ⟨8 * (16 * t + o) + k, ix_n (by omega) (by omega), ?_⟩⟩
                rcases z2.2.2.2.2.2.2.2.2.2.2.2 k (by omega) with ⟨y1, y2⟩ | ⟨b, p, y1, y2, y3, y4, -⟩
                · rw [y2]
                  refine ⟨fun _ => w_383_106 hT ?_, fun z => absurd (by decide) z⟩
                  rw [i_add, i_add]
                  rw [y1] at this
                  exact this
                · rw [y3]
                  refine ⟨fun z => absurd z (by rw [i_n0 (by omega)]; exact id), fun _ => ⟨8 * (16 * t + o) + k, ix_n (by omega) (by omega), ?_⟩⟩
                  rw [y3]
                  refine t_placesOf hT RG K y2 y4 (hz b (zu_n_t ho z1 (List.mem_filterMap.mpr ⟨k, List.mem_range.mpr (by omega), y1⟩))) ?_
                  refine w_383_106 hT ?_
                  rw [i_add, i_add]
                  rw [y1, ← Nat.add_assoc (rsum (zt_u1 G T u) o)] at this
                  exact this
            exact li 8 0 rfl
          refine w_383_42 hT ?_
          cases eu : u with
          | none =>
            rw [eu] at sum
            refine ⟨fun _ => ?_, fun z => absurd (by decide) z⟩
            exact sum (Or.inl rfl)
          | some x =>
            have hx := hu x eu
            refine ⟨fun z => absurd z (by show ¬ (Int32.ofNat x) < (Int32.ofNat 0); rw [i_n0 (by omega)]; exact id), fun _ => ⟨16 * t + o, ix_n (by omega) (by omega), fun z => ?_, fun z => ?_⟩⟩
            · rw [e42] at z
              have z : zn_at N 2 = x := (i_eq l42 (by omega)).mp z
              have := sum (Or.inr (by rw [eu, z]))
              rw [eu] at this
              exact this
            · rw [e42] at z
              have := n0 (by
                rw [u1, if_neg]
                rintro ⟨-, q | q⟩
                · rw [eu] at q; cases q
                · rw [eu] at q; exact z (by show (Int32.ofNat (zn_at N 2)) = (Int32.ofNat x); rw [Option.some.inj q]))
              rw [eu] at this
              exact this
        rw [e40]
        refine ⟨fun z => go (Or.inl ((i_eq l40 (by decide)).mp z)), fun z => ⟨16 * t + o, ix_n (by omega) (by omega), ?_⟩⟩
        rw [e40]
        refine ⟨fun y => n0 ?_, fun y => go (Or.inr ((i_eq l40 (by decide)).mp y))⟩
        rw [u1, if_neg]
        rintro ⟨q | q, -⟩
        · exact z (by rw [q])
        · exact y (by rw [q])
  refine w_383_0 hT ?_
  rw [i_mul]
  exact lp 16 0 rfl
/-- pointers that are to be put -/
def tnp (h : hh_T) (m : Nat) (G : zG) (pt : Nat → Option zB) : Prop := ∀ k, k < 8 → (pt k = none ∧ hh_i h (m + 104) k = Int32.ofInt (-1)) ∨ ∃ b p, pt k = some b ∧ p < 640 ∧ hh_i h (m + 104) k = (Int32.ofNat p) ∧ tb h m p b ∧ zb_ok G b
theorem t_isOver {i t o : Nat} {d : zD} {N : zN} {pt : Nat → Option zB} (hT : tw_ok h m) (RG : rT_G h m G) (K : zg_ok P G) (hi : i < 8) (D : td h m i d) (TT : tt h m t (zd_tr d)) (ho : o < 16) (eN : zt_ob (zd_tr d) o = some N) (hz : ∀ b, b ∈ zu_t (zd_tr d) → zb_ok G b) (hp : tnp h m G pt)
    (H : Q (.inl (some (.int (bi (zd_over G d N pt))))) h) : gm_G 404 0 [some (.ref m), some (.int (Int32.ofNat i)), some (.int (Int32.ofNat ((16 * t + o))))] [] h Q := by
  have ht := TT.1
  obtain ⟨z2⟩ : Nonempty (tn h m (16 * t + o) N) := by
    rcases TT.2.2.2 o ho with ⟨z, -⟩ | ⟨N', z1, z2⟩
    · rw [eN] at z; cases z
    · rw [eN] at z1
      cases z1
      exact ⟨z2⟩
  have hzN : ∀ b, b ∈ zu_n N → zb_ok G b := fun b hb => hz b (zu_n_t ho eN hb)
  have lw := zl_pp_le (tn_bp K z2 hzN)
  have li : zl_pp G pt ≤ 1600 := zl_pp_le (fun k b hk e => by
    rcases hp k hk with ⟨z, -⟩ | ⟨b', p, y1, y2, y3, y4, y5⟩
    · rw [e] at z; cases z
    · rw [e] at y1
      cases y1
      exact zl_bp_le K y5 y4.2.2.2.2.2.2.2.1 y4.2.2.2.2.1)
  obtain ⟨e42, l42⟩ := z2.1 2 (by decide)
  have e42 : hh_i h (m + 42) (16 * t + o) = (Int32.ofNat (zn_at N 2)) := e42
  have l2 := z2.2.2.2.1
  obtain ⟨d1, d2, d3, d4, d5, d6, d7, d8, d9, d10, d11, d12⟩ := D
  have q0 : hh_i h (m + 66) (9 * i) = zd_qu d 0 := d12 0 (by decide)
  have q1 := d12 (1 + zn_at N 2) (by omega)
  refine w_404_0 hT ?_
  have lp : ∀ e k, k + e = 8 → gm_G 404 8 [some (.ref m), some (.int (Int32.ofNat i)), some (.int (Int32.ofNat ((16 * t + o)))), some (.int (Int32.ofNat ((rsum (fun k => zl_p1 G (zn_pt N k)) k)))), some (.int (Int32.ofNat ((rsum (fun k => zl_p1 G (pt k)) k)))), some (.int (Int32.ofNat k))] [] h Q := by
    intro e
    induction e with
    | zero =>
      intro k ek
      have ek : k = 8 := by omega
      subst ek
      rw [← zl_pp_eq, ← zl_pp_eq]
      refine w_404_8 hT ⟨fun _ => ⟨fun z => ?_, fun z => ?_⟩, fun z => absurd z (by decide)⟩
      · rw [i_lt (by omega) (by omega)] at z
        refine ⟨9 * i, by rw [i_mul]; exact ix_n (by omega) (by omega), 16 * t + o, ix_n (by omega) (by omega), 9 * i + (1 + zn_at N 2), by rw [e42, i_mul, i_add, i_add, show 9 * i + 1 + zn_at N 2 = 9 * i + (1 + zn_at N 2) by omega]; exact ix_n (by omega) (by omega), ?_⟩
        rw [q0, q1, i_div (by omega) (by decide), show (16 * t + o) / 16 = t by omega]
        unfold zd_over at H
        rw [decide_eq_true z, Bool.true_and] at H
        -- by the quota of the owner
        have two : ((decide (¬ zd_qu d 0 < (Int32.ofNat 0)) && decide (zd_qu d 0 < (Int32.ofNat (zt_used G (zd_tr d) none + zl_pp G pt - zl_pp G (zn_pt N))))) = false) → gm_G 404 156 [some (.ref m), none, some (.int (Int32.ofNat ((16 * t + o)))), some (.int (Int32.ofNat ((zl_pp G (zn_pt N))))), some (.int (Int32.ofNat ((zl_pp G pt)))), some (.int (Int32.ofNat t)), none, some (.int (zd_qu d (1 + zn_at N 2)))] [] h Q := by
          intro e1
          rw [e1, Bool.false_or] at H
          refine w_404_156 hT ⟨fun y => ?_, fun y => ⟨16 * t + o, ix_n (by omega) (by omega), ?_⟩⟩
          · rw [decide_eq_false (fun q => q y), Bool.false_and] at H
            exact H
          · rw [e42]
            rw [decide_eq_true y, Bool.true_and] at H
            refine t_usedOf (u := some (zn_at N 2)) hT RG K TT hz (fun x e => by cases e; exact l2) (fun hle => ?_)
            have es : (Int32.ofNat (zt_used G (zd_tr d) (some (zn_at N 2)))) + (Int32.ofNat (zl_pp G pt)) - (Int32.ofNat (zl_pp G (zn_pt N))) = (Int32.ofNat (zt_used G (zd_tr d) (some (zn_at N 2)) + zl_pp G pt - zl_pp G (zn_pt N))) := by rw [i_add, i_sub (by omega)]
            refine ⟨fun q => ?_, fun q => w_404_183 hT ?_⟩
            · rw [es] at q; rw [decide_eq_false q] at H; exact H
            · rw [es] at q; rw [decide_eq_true q] at H; exact H
        refine ⟨fun y => two (by rw [decide_eq_false (fun q => q y), Bool.false_and]), fun y => ?_⟩
        refine t_usedOf (u := none) hT RG K TT hz (fun x e => by cases e) (fun hle => ?_)
        have es : (Int32.ofNat (zt_used G (zd_tr d) none)) + (Int32.ofNat (zl_pp G pt)) - (Int32.ofNat (zl_pp G (zn_pt N))) = (Int32.ofNat (zt_used G (zd_tr d) none + zl_pp G pt - zl_pp G (zn_pt N))) := by rw [i_add, i_sub (by omega)]
        refine ⟨fun q => w_404_183 hT ?_, fun q => two (by rw [es] at q; rw [decide_eq_false q, Bool.and_false])⟩
        rw [es] at q
        rw [decide_eq_true y, decide_eq_true q, Bool.true_and, Bool.true_or] at H
        exact H
      · rw [i_lt (by omega) (by omega)] at z
        unfold zd_over at H
        rw [decide_eq_false z, Bool.false_and] at H
        exact H
    | succ e ih =>
      intro k ek
      have hk : k < 8 := by omega
      have nx := ih (k + 1) (by omega)
      rw [rsum_S, rsum_S] at nx
      have go : ∀ s, s = rsum (fun k => zl_p1 G (zn_pt N k)) k + zl_p1 G (zn_pt N k) → gm_G 404 51 [some (.ref m), some (.int (Int32.ofNat i)), some (.int (Int32.ofNat ((16 * t + o)))), none, some (.int (Int32.ofNat ((rsum (fun k => zl_p1 G (pt k)) k)))), some (.int (Int32.ofNat k))] [.int (Int32.ofNat (zl_p1 G (zn_pt N k))), .int (Int32.ofNat (rsum (fun k => zl_p1 G (zn_pt N k)) k))] h Q := by
        intro s es
        refine w_404_51 hT ⟨k, ix_n hk (by omega), ?_⟩
        rcases hp k hk with ⟨y1, y2⟩ | ⟨b, p, y1, y2, y3, y4, y5⟩
        · rw [y2]
          refine ⟨fun _ => w_404_80 hT ?_, fun z => absurd (by decide) z⟩
          rw [i_add, i_add, i_add]
          rw [y1] at nx
          exact nx
        · rw [y3]
          refine ⟨fun z => absurd z (by rw [i_n0 (by omega)]; exact id), fun _ => ⟨k, ix_n hk (by omega), ?_⟩⟩
          rw [y3]
          refine t_placesOf hT RG K y2 y4 y5 ?_
          refine w_404_80 hT ?_
          rw [i_add, i_add, i_add]
          rw [y1] at nx
          exact nx
      refine w_404_8 hT ⟨fun z => absurd (by rw [i_lt (by omega) (by decide)]; omega) z, fun _ => ⟨8 * (16 * t + o) + k, by rw [i_mul, i_add]; exact ix_n (by omega) (by omega), ?_⟩⟩
      have g1 := go _ rfl
      rcases z2.2.2.2.2.2.2.2.2.2.2.2 k hk with ⟨y1, y2⟩ | ⟨b, p, y1, y2, y3, y4, -⟩
      · rw [y2]
        rw [y1] at g1
        exact ⟨fun _ => g1, fun z => absurd (by decide) z⟩
      · rw [y3]
        rw [y1] at g1
        refine ⟨fun z => absurd z (by rw [i_n0 (by omega)]; exact id), fun _ => ⟨8 * (16 * t + o) + k, by rw [i_mul, i_add]; exact ix_n (by omega) (by omega), ?_⟩⟩
        rw [y3]
        refine t_placesOf hT RG K y2 y4 (hzN b (List.mem_filterMap.mpr ⟨k, List.mem_range.mpr hk, y1⟩)) ?_
        exact g1
  exact lp 8 0 rfl
end PL
