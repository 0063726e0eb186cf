/-! STAGE 3: rights and ways -/
theorem rt_r_cg {P P' K K' : Nat → Bool} {D : Bool} : ∀ d k, (∀ x, k ≤ x → x < k + d → P x = P' x ∧ K x = K' x) → rt_r P K D d k = rt_r P' K' D d k
  | 0, _, _ => rfl
  | d + 1, k, e => by
    show (if P k then K k else rt_r P K D d (k + 1)) = (if P' k then K' k else rt_r P' K' D d (k + 1))
    rw [(e k (Nat.le_refl _) (by omega)).1, (e k (Nat.le_refl _) (by omega)).2, rt_r_cg d (k + 1) (fun x h1 h2 => e x (by omega) (by omega))]
theorem rt_m_1 (P : Int32 → Bool) : rt_m P (Int32.ofNat 1) = P (Int32.ofNat 1) := by
  unfold rt_m
  rw [show decide ((Int32.ofNat 1) &&& (Int32.ofNat 1) = (Int32.ofNat 0)) = false by decide, show decide ((Int32.ofNat 1) &&& (Int32.ofNat 2) = (Int32.ofNat 0)) = true by decide, show decide ((Int32.ofNat 1) &&& (Int32.ofNat 4) = (Int32.ofNat 0)) = true by decide]
  simp
theorem rt_m_2 (P : Int32 → Bool) : rt_m P (Int32.ofNat 2) = P (Int32.ofNat 2) := by
  unfold rt_m
  rw [show decide ((Int32.ofNat 2) &&& (Int32.ofNat 1) = (Int32.ofNat 0)) = true by decide, show decide ((Int32.ofNat 2) &&& (Int32.ofNat 2) = (Int32.ofNat 0)) = false by decide, show decide ((Int32.ofNat 2) &&& (Int32.ofNat 4) = (Int32.ofNat 0)) = true by decide]
  simp
theorem rt_m_4 (P : Int32 → Bool) : rt_m P (Int32.ofNat 4) = P (Int32.ofNat 4) := by
  unfold rt_m
  rw [show decide ((Int32.ofNat 4) &&& (Int32.ofNat 1) = (Int32.ofNat 0)) = true by decide, show decide ((Int32.ofNat 4) &&& (Int32.ofNat 2) = (Int32.ofNat 0)) = true by decide, show decide ((Int32.ofNat 4) &&& (Int32.ofNat 4) = (Int32.ofNat 0)) = false by decide]
  simp
section RG
variable {h : hh_T} {m : Nat} {Q : Option Value ⊕ Nat → hh_T → Prop} {A : zA}
theorem rt_1_tn {q u : Nat} {N : zN} (RA : rT_A h m A) (R : tn h m q N) (hu : u < 8) (rg : Int32) : rt_1 (hh_i h (m + 3)) u (hh_i h (m + 42) q) (zn_at N 3) (hh_i h (m + 41) q) (zn_rw N).length (fun k => hh_i h (m + 50) (4 * q + k)) (fun k => hh_i h (m + 52) (4 * q + k)) (fun k => ((zn_rw N).getD k (0, 0, 0)).2.1) rg
    = rt_1 (fun i => bi (za_cls A i)) u (Int32.ofNat (zn_at N 2)) (zn_at N 3) (Int32.ofNat (zn_at N 1)) (zn_rw N).length (fun k => (Int32.ofNat (((zn_rw N).getD k (0, 0, 0)).1))) (fun k => (Int32.ofNat (((zn_rw N).getD k (0, 0, 0)).2.2))) (fun k => ((zn_rw N).getD k (0, 0, 0)).2.1) rg := by
  have e42 : hh_i h (m + 42) q = (Int32.ofNat (zn_at N 2)) := (R.1 2 (by decide)).1
  have e41 : hh_i h (m + 41) q = (Int32.ofNat (zn_at N 1)) := (R.1 1 (by decide)).1
  have h3 := R.2.2.2.2.1
  have hc := RA.2.2.2.2.2.2.2.2.2.2
  have r9 := R.2.2.2.2.2.2.2.2.1
  rw [e42, e41]
  have es : rt_s (hh_i h (m + 3)) u (Int32.ofNat (zn_at N 2)) (zn_at N 3) = rt_s (fun i => bi (za_cls A i)) u (Int32.ofNat (zn_at N 2)) (zn_at N 3) := by
    unfold rt_s
    rw [hc (8 * u + zn_at N 3) (by omega)]
  unfold rt_1
  rw [es]
  refine rt_r_cg _ _ (fun x _ hx => ?_)
  obtain ⟨x1, x2, x3, x4, x5, x6⟩ := r9 x (by omega)
  have ef : rt_f (hh_i h (m + 3)) u (Int32.ofNat (zn_at N 2)) (zn_at N 3) ((zn_rw N).getD x (0, 0, 0)).2.1 = rt_f (fun i => bi (za_cls A i)) u (Int32.ofNat (zn_at N 2)) (zn_at N 3) ((zn_rw N).getD x (0, 0, 0)).2.1 := by
    unfold rt_f
    rw [hc (8 * u + zn_at N 3) (by omega)]
    by_cases y : ((zn_rw N).getD x (0, 0, 0)).2.1 < 16
    · rw [if_pos y, if_pos y]
    · rw [if_neg y, if_neg y, hc _ (by rcases x5 with z | z <;> omega)]
  refine ⟨?_, ?_⟩
  · simp only [x3, ef]
  · simp only [x1]
theorem tn_ok_of {q : Nat} {N : zN} (hq : q < 1536) (R : tn h m q N) : tn_ok h m q (zn_at N 3) (zn_rw N).length (fun k => ((zn_rw N).getD k (0, 0, 0)).2.1) := by
  obtain ⟨r1, r2, r3, r4, r5, r6, r7, r8, r9, -⟩ := R
  exact ⟨hq, (r1 3 (by decide)).1, r5, r7, r8, fun k hk => ⟨(r9 k hk).2.2.2.2.1, (r9 k hk).2.1⟩⟩
theorem t_all {q u : Nat} {N : zN} {mask : Int32} (hT : tw_ok h m) (RA : rT_A h m A) (hq : q < 1536) (R : tn h m q N) (hu : u < 8) (H : Q (.inl (some (.int (bi (zn_al A N u mask))))) h) : gm_G 282 0 [some (.ref m), some (.int (Int32.ofNat q)), some (.int (Int32.ofNat u)), some (.int mask)] [] h Q := by
  refine t_hasAll hT (tn_ok_of hq R) hu ?_
  have e : (fun rg => rt_1 (hh_i h (m + 3)) u (hh_i h (m + 42) q) (zn_at N 3) (hh_i h (m + 41) q) (zn_rw N).length (fun k => hh_i h (m + 50) (4 * q + k)) (fun k => hh_i h (m + 52) (4 * q + k)) (fun k => ((zn_rw N).getD k (0, 0, 0)).2.1) rg) = fun rg => rt_1 (fun i => bi (za_cls A i)) u (Int32.ofNat (zn_at N 2)) (zn_at N 3) (Int32.ofNat (zn_at N 1)) (zn_rw N).length (fun k => (Int32.ofNat (((zn_rw N).getD k (0, 0, 0)).1))) (fun k => (Int32.ofNat (((zn_rw N).getD k (0, 0, 0)).2.2))) (fun k => ((zn_rw N).getD k (0, 0, 0)).2.1) rg := funext fun rg => rt_1_tn RA R hu rg
  rw [e]
  exact H
theorem t_one {q u : Nat} {N : zN} {rg : Int32} (hr : rg = (Int32.ofNat 1) ∨ rg = (Int32.ofNat 2) ∨ rg = (Int32.ofNat 4)) (hT : tw_ok h m) (RA : rT_A h m A) (hq : q < 1536) (R : tn h m q N) (hu : u < 8) (H : Q (.inl (some (.int (bi (zn_al A N u rg))))) h) : gm_G 115 0 [some (.ref m), some (.int (Int32.ofNat q)), some (.int (Int32.ofNat u)), some (.int rg)] [] h Q := by
  refine t_hasRight hT (tn_ok_of hq R) hu ?_
  rw [rt_1_tn RA R hu rg]
  unfold zn_al at H
  rcases hr with e | e | e <;> subst e
  · rw [rt_m_1] at H; exact H
  · rw [rt_m_2] at H; exact H
  · rw [rt_m_4] at H; exact H
end RG
/-- a tree with sound entries and links -/
def zt_wf (T : zT) : Prop := ∀ o N, o < 16 → zt_ob T o = some N → (zn_at N 0 = 2 → ((zn_en N).map (fun x => x.1)).Nodup ∧ ∀ e, e ∈ zn_en N → e.2 < 16 ∧ (zt_ob T e.2).isSome = true) ∧ (zn_at N 0 = 3 → ¬ (zn_ph N).getLast? = some (Int32.ofNat 47)) ∧ (¬ zn_at N 0 = 2 → zn_en N = [])
theorem nd_e {L : List (Int64 × Nat)} (nd : (L.map (fun x => x.1)).Nodup) : ∀ e e', e ∈ L → e' ∈ L → e.1 = e'.1 → e = e' := by
  intro e e' h1 h2 he
  obtain ⟨a, ha, ea⟩ := List.getElem_of_mem h1
  obtain ⟨b, hb, eb⟩ := List.getElem_of_mem h2
  have : a = b := nd_get nd (by rw [List.length_map]; exact ha) (by rw [List.length_map]; exact hb) (by rw [List.getElem_map, List.getElem_map, ea, eb, he])
  subst this
  rw [← ea, ← eb]
theorem nm_d_cg {f g : Nat → Int32} {p q n : Nat} (e : ∀ i, i < n → g (q + i) = f (p + i)) : nm_d g q n = nm_d f p n := by
  unfold nm_d
  by_cases h1 : n = 1
  · have e0 := e 0 (by omega)
    rw [Nat.add_zero, Nat.add_zero] at e0
    rw [e0, decide_eq_false (show ¬ n = 2 by omega)]; simp only [Bool.false_and]
  · by_cases h2 : n = 2
    · have e0 := e 0 (by omega)
      have e1 := e 1 (by omega)
      rw [Nat.add_zero, Nat.add_zero] at e0
      rw [e0, e1]
    · rw [decide_eq_false h1, decide_eq_false h2]
      simp only [Bool.false_and]
theorem pt_e_S (f : Nat → Int32) (p n : Nat) : pt_e f p (n + 1) = if f p = (Int32.ofNat 47) then 0 else pt_e f (p + 1) n + 1 := rfl
/-- behind a step that is not the last there is a stroke -/
theorem pt_e_at (f : Nat → Int32) : ∀ n p, pt_e f p n < n → f (p + pt_e f p n) = (Int32.ofNat 47)
  | 0, _, h => absurd h (Nat.not_lt_zero _)
  | n + 1, p, h => by
    rw [pt_e_S] at h ⊢
    by_cases c : f p = (Int32.ofNat 47)
    · rw [if_pos c, Nat.add_zero]; exact c
    · rw [if_neg c] at h ⊢
      have := pt_e_at f n (p + 1) (by omega)
      rw [show p + (pt_e f (p + 1) n + 1) = p + 1 + pt_e f (p + 1) n by omega]
      exact this
theorem lf_drop (w : zBy) (k x : Nat) : lf (w.drop k) x = lf w (k + x) := by
  unfold lf
  rw [List.getD_eq_getElem?_getD, List.getD_eq_getElem?_getD, List.getElem?_drop]
theorem last_drop {w : zBy} {k : Nat} (hk : k < w.length) : (w.drop k).getLast? = w.getLast? := by
  rw [List.getLast?_drop, if_neg (by omega)]
