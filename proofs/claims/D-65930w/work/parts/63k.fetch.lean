/-! STAGE 3: the twin reads a block from disks -/
theorem sm_f_cg {t : Int64 → Int32 → Int64} {f f' : Nat → Int32} : ∀ n, (∀ i, i < n → f i = f' i) → sm_f t f n = sm_f t f' n
  | 0, _ => rfl
  | n + 1, e => by rw [← sm_fS, ← sm_fS, sm_f_cg n (fun i hi => e i (by omega)), e n (by omega)]
theorem sm_b_cg {t : Int64 → Int32 → Int64} {f f' : Nat → Int32} : ∀ n s, (∀ i, i < n → f i = f' i) → sm_b t f n s = sm_b t f' n s
  | 0, _, _ => rfl
  | n + 1, s, e => by rw [sm_bS, sm_bS, e n (by omega), sm_b_cg n _ (fun i hi => e i (by omega))]
theorem sm_cg {f f' : Nat → Int32} {n : Nat} (e : ∀ i, i < n → f i = f' i) : sm f n = sm f' n := by
  unfold sm
  rw [sm_f_cg n e, sm_b_cg n _ e]
theorem lm_cg {f f' : Nat → Int32} : ∀ n s, (∀ i, i < n → f (s + i) = f' (s + i)) → lm f s n = lm f' s n
  | 0, _, _ => rfl
  | n + 1, s, e => by
    rw [lm_S, lm_S, lm_cg n s (fun i hi => e i (by omega)), e n (by omega)]
theorem dz_cg {f f' : Nat → Int32} {n : Nat} (e : ∀ i, i < n → f i = f' i) : ∀ F p o, dz f n F p o = dz f' n F p o
  | 0, _, _ => rfl
  | F + 1, p, o => by
    rw [dz_S, dz_S]
    by_cases h1 : 32 ≤ o.length
    · rw [if_pos h1, if_pos h1]
    · rw [if_neg h1, if_neg h1]
      by_cases h2 : n ≤ p
      · rw [if_pos h2, if_pos h2]
      · rw [if_neg h2, if_neg h2, e p (by omega)]
        by_cases h3 : n ≤ p + 1
        · rw [if_pos h3, if_pos h3, dz_cg e F]
        · rw [e (p + 1) (by omega), dz_cg e F, dz_cg e F]
theorem dp_cg {f f' : Nat → Int32} {n : Nat} (e : ∀ i, i < n → f i = f' i) : ∀ F p o, dp f n F p o = dp f' n F p o
  | 0, _, _ => rfl
  | F + 1, p, o => by
    rw [dp_S, dp_S]
    by_cases h1 : 32 ≤ o.length
    · rw [if_pos h1, if_pos h1]
    · rw [if_neg h1, if_neg h1]
      by_cases h2 : n ≤ p
      · rw [if_pos h2, if_pos h2]
      · rw [if_neg h2, if_neg h2, e p (by omega)]
        by_cases h3 : vz (f' p) < 128
        · rw [if_pos h3, if_pos h3]
          by_cases h4 : 32 - o.length < vz (f' p) + 1 ∨ n - (p + 1) < vz (f' p) + 1
          · rw [if_pos h4, if_pos h4]
          · rw [if_neg h4, if_neg h4, dp_cg e F, lm_cg (f := f) (f' := f') _ _ (fun i hi => e _ (by omega))]
        · rw [if_neg h3, if_neg h3]
          by_cases h4 : n ≤ p + 1
          · rw [if_pos (Or.inl h4), if_pos (Or.inl h4)]
          · rw [e (p + 1) (by omega), dp_cg e F]
theorem zd_c_cg {f f' : Nat → Int32} {co n : Nat} (e : ∀ i, i < n → f i = f' i) : zd_c co f n = zd_c co f' n := by
  have h1 : zd_r co f n = zd_r co f' n := by
    unfold zd_r
    rw [dz_cg e, dp_cg e]
    by_cases z : n < 32
    · rw [if_pos z, if_pos z]
    · rw [if_neg z, if_neg z, lm_cg 32 0 (fun i hi => e _ (by omega))]
  have h2 : ∀ t, zd_tail f t n = zd_tail f' t n := fun t => by
    unfold zd_tail
    rw [Bool.eq_iff_iff, List.all_eq_true, List.all_eq_true]
    constructor
    · intro q i hi
      rw [← e i (List.mem_range.mp hi)]
      exact q i hi
    · intro q i hi
      rw [e i (List.mem_range.mp hi)]
      exact q i hi
  unfold zd_c
  rw [h1]
  simp only [h2]
theorem zr_fit_cg {f f' : Nat → Int32} {b : zB} (e : ∀ i, i < 8 * zb_k b → f i = f' i) : zr_fit b f = zr_fit b f' := by
  unfold zr_fit
  rw [sm_cg e, zd_c_cg e]
theorem zp_wr_tear (P : zP) (d s : Nat) (f : Nat → Int32) : zp_tear (zp_wr P d s f).1 = zp_tear P := by
  unfold zp_wr
  split
  · rfl
  · split <;> rfl
theorem zp_men_nil (P : zP) : zp_men P [] = (P, true) := rfl
theorem zp_men_c (P : zP) (w : Nat × Nat × (Nat → Int32)) (r : List (Nat × Nat × (Nat → Int32))) : zp_men P (w :: r) = if zp_here P w.1 = false ∨ zp_ri P w.1 w.2.1 w.2.2 = true then zp_men P r
    else if (zp_wr P w.1 w.2.1 w.2.2).2 then zp_men (zp_mended_ (zp_wr P w.1 w.2.1 w.2.2).1 (zp_mended (zp_wr P w.1 w.2.1 w.2.2).1 + (Int32.ofNat 1))) r else ((zp_wr P w.1 w.2.1 w.2.2).1, false) := rfl
theorem zp_men_cg {α : Type} {en en' : α → Nat × Nat × (Nat → Int32)} : ∀ (L : List α) (P : zP), zp_tear P ≤ 8 → (∀ q, q ∈ L → (en q).1 = (en' q).1 ∧ (en q).2.1 = (en' q).2.1 ∧ ∀ i, i < 8 → (en q).2.2 i = (en' q).2.2 i) → zp_men P (L.map en) = zp_men P (L.map en') ∧ zp_tear (zp_men P (L.map en)).1 = zp_tear P
  | [], P, _, _ => ⟨rfl, rfl⟩
  | x :: L, P, ht, e => by
    obtain ⟨e1, e2, e3⟩ := e x (List.mem_cons_self ..)
    rw [List.map_cons, List.map_cons, zp_men_c, zp_men_c, e1, e2]
    have hr : zp_ri P (en' x).1 (en' x).2.1 (en x).2.2 = zp_ri P (en' x).1 (en' x).2.1 (en' x).2.2 := by
      rw [Bool.eq_iff_iff, zp_ri_8, zp_ri_8]
      constructor
      · exact fun q => ⟨q.1, fun i hi => by rw [← e3 i hi]; exact q.2 i hi⟩
      · exact fun q => ⟨q.1, fun i hi => by rw [e3 i hi]; exact q.2 i hi⟩
    rw [hr, zp_wr_c ht e3]
    have eL : ∀ q, q ∈ L → (en q).1 = (en' q).1 ∧ (en q).2.1 = (en' q).2.1 ∧ ∀ i, i < 8 → (en q).2.2 i = (en' q).2.2 i := fun q hq => e q (List.mem_cons_of_mem _ hq)
    split
    · exact zp_men_cg L P ht eL
    · split
      · have ht2 := zp_wr_tear P (en' x).1 (en' x).2.1 (en' x).2.2
        obtain ⟨q1, q2⟩ := zp_men_cg (en := en) (en' := en') L (zp_mended_ (zp_wr P (en' x).1 (en' x).2.1 (en' x).2.2).1 (zp_mended (zp_wr P (en' x).1 (en' x).2.1 (en' x).2.2).1 + (Int32.ofNat 1))) (by show zp_tear (zp_wr P (en' x).1 (en' x).2.1 (en' x).2.2).1 ≤ 8; rw [ht2]; exact ht) eL
        exact ⟨q1, q2.trans ht2⟩
      · exact ⟨rfl, zp_wr_tear ..⟩
theorem zi_c_cg {j : Nat} {v v' : Nat → Nat} : ∀ r, (∀ i, i < r → v i = v' i) → zi_c j v r = zi_c j v' r
  | 0, _ => rfl
  | r + 1, e => by
    show zi_c j v r ^^^ gt (pw (j * r)) (v r) = zi_c j v' r ^^^ gt (pw (j * r)) (v' r)
    rw [zi_c_cg r (fun i hi => e i (by omega)), e r (by omega)]
theorem zg_im_cg {P : zP} {G : zG} {g k : Nat} {f f' : Nat → Int32} (K : zg_ok P G) (hg : g < zg_ng G) (e : ∀ i, i < 8 * k → f i = f' i) {j i : Nat} (hj : j < zg_sp G g k) (hi : i < 8) : zg_im G g k f j i = zg_im G g k f' j i := by
  obtain ⟨k0, k1, -⟩ := K
  obtain ⟨c1, c2, c3, c4, c5, c6, c7⟩ := k1 g hg
  unfold zg_im
  unfold zg_sp at hj
  cases hpar : zg_par G g with
  | false =>
    rw [if_neg (by rw [hpar]; decide)] at hj
    exact e _ (by omega)
  | true =>
    rw [if_pos hpar] at hj
    obtain ⟨c51, c52, c53⟩ := c5 hpar
    rw [if_pos rfl, if_pos rfl]
    obtain ⟨W, hW⟩ : ∃ W, W = zg_many G g - zg_chk G g := ⟨_, rfl⟩
    obtain ⟨M, hM⟩ : ∃ M, M = zg_chk G g := ⟨_, rfl⟩
    rw [← hW] at hj ⊢
    rw [← hM] at hj ⊢
    have hWM : 0 < M + W := by omega
    have hdm := Nat.div_add_mod j (M + W)
    have hml := Nat.mod_lt j hWM
    obtain ⟨q, hq⟩ : ∃ q, q = j / (M + W) := ⟨_, rfl⟩
    obtain ⟨o, ho⟩ : ∃ o, o = j % (M + W) := ⟨_, rfl⟩
    rw [← hq, ← ho] at hdm
    rw [← ho] at hml
    unfold zi_x
    rw [← hq, ← ho]
    by_cases z : o < M
    · rw [if_pos z, if_pos z, zi_c_cg (v := fun e => vz (f (8 * (q * W + e) + i))) (v' := fun e => vz (f' (8 * (q * W + e) + i))) _ (fun t ht => by show vz (f _) = vz (f' _); rw [e _ (by omega)])]
    · rw [if_neg z, if_neg z]
      refine e _ ?_
      have key : q * W + (o - M) < k := by
        by_cases y : q * W + (o - M) < k
        · exact y
        · exfalso
          have h1 : ¬ (q + 1) < (k + W - 1) / W := by
            rw [rows_lt (by omega), Nat.succ_mul]
            omega
          have h2 : M * ((k + W - 1) / W) ≤ M * (q + 1) := Nat.mul_le_mul_left _ (by omega)
          have h3 : M * (q + 1) = q * M + M := by rw [Nat.mul_succ, Nat.mul_comm]
          have h4 : (M + W) * q = q * M + q * W := by rw [Nat.mul_comm, Nat.mul_add]
          omega
      omega
theorem zg_wl_men {P0 : zP} {G : zG} {g a k : Nat} {f f' : Nat → Int32} (K : zg_ok P0 G) (hg : g < zg_ng G) (e : ∀ i, i < 8 * k → f i = f' i) (P : zP) (ht : zp_tear P ≤ 8) : zp_men P (zg_wl G g a k f) = zp_men P (zg_wl G g a k f') ∧ zp_tear (zp_men P (zg_wl G g a k f)).1 = zp_tear P := by
  have fm : ∀ f, zg_wl G g a k f = ((List.range (zg_rd G g)).flatMap (fun x => (List.range (zg_sp G g k)).map (fun j => (x, j)))).map (fun q => zg_en G g a k f q.1 q.2) := by
    intro f
    rw [zg_wl_eq, List.map_flatMap]
    congr 1
    funext x
    rw [List.map_map]
    rfl
  rw [fm f, fm f']
  refine zp_men_cg _ P ht (fun q hq => ?_)
  rw [List.mem_flatMap] at hq
  obtain ⟨x, -, hq⟩ := hq
  rw [List.mem_map] at hq
  obtain ⟨j, hj, rfl⟩ := hq
  rw [List.mem_range] at hj
  unfold zg_en
  cases zg_par G g
  · exact ⟨rfl, rfl, fun i hi => zg_im_cg K hg e hj hi⟩
  · exact ⟨rfl, rfl, fun i hi => zg_im_cg K hg e hj hi⟩
theorem zp_cps_cg {P0 : zP} {G : zG} {k : Nat} {f f' : Nat → Int32} (K : zg_ok P0 G) (e : ∀ i, i < 8 * k → f i = f' i) : ∀ (L : List (Nat × Nat)) (P : zP), zp_tear P ≤ 8 → (∀ c, c ∈ L → c.1 < zg_ng G) → zp_cps zp_men G k f P L = zp_cps zp_men G k f' P L
  | [], _, _, _ => rfl
  | c :: L, P, ht, hL => by
    obtain ⟨q1, q2⟩ := zg_wl_men (a := c.2) K (hL c (List.mem_cons_self ..)) e P ht
    rw [zp_cps_c, zp_cps_c, q1]
    rw [q1] at q2
    split
    · exact zp_cps_cg K e L _ (by rw [q2]; exact ht) (fun c hc => hL c (List.mem_cons_of_mem _ hc))
    · rfl
theorem zp_cps_nd {G : zG} {k : Nat} {f : Nat → Int32} : ∀ (L : List (Nat × Nat)) (P : zP), zp_nd (zp_cps zp_men G k f P L).1 = zp_nd P ∧ zp_sec (zp_cps zp_men G k f P L).1 = zp_sec P
  | [], _ => ⟨rfl, rfl⟩
  | c :: L, P => by
    obtain ⟨q1, q2⟩ := zp_men_nd G (zg_wl G c.1 c.2 k f) P
    rw [zp_cps_c]
    split
    · obtain ⟨p1, p2⟩ := zp_cps_nd (G := G) (k := k) (f := f) L (zp_men P (zg_wl G c.1 c.2 k f)).1
      exact ⟨p1.trans q1, p2.trans q2⟩
    · exact ⟨q1, q2⟩
theorem zr_find_n (fit : (Nat → Int32) → Option zBy) (t : Option (Nat → Int32) × Bool) (r : List (Option (Nat → Int32) × Bool)) (F : Bool) (e : t.1 = none) : zr_find fit (t :: r) F = zr_find fit r false := by
  show (match t.1 with | none => zr_find fit r false | some f => (match fit f with | none => zr_find fit r false | some o => some (f, o, !F || t.2))) = _
  rw [e]
theorem zr_find_u (fit : (Nat → Int32) → Option zBy) (t : Option (Nat → Int32) × Bool) (r : List (Option (Nat → Int32) × Bool)) (F : Bool) {f : Nat → Int32} (e : t.1 = some f) (e2 : fit f = none) : zr_find fit (t :: r) F = zr_find fit r false := by
  show (match t.1 with | none => zr_find fit r false | some f => (match fit f with | none => zr_find fit r false | some o => some (f, o, !F || t.2))) = _
  rw [e]
  dsimp only
  rw [e2]
theorem zr_find_s (fit : (Nat → Int32) → Option zBy) (t : Option (Nat → Int32) × Bool) (r : List (Option (Nat → Int32) × Bool)) (F : Bool) {f : Nat → Int32} {o : zBy} (e : t.1 = some f) (e2 : fit f = some o) : zr_find fit (t :: r) F = some (f, o, !F || t.2) := by
  show (match t.1 with | none => zr_find fit r false | some f => (match fit f with | none => zr_find fit r false | some o => some (f, o, !F || t.2))) = _
  rw [e]
  dsimp only
  rw [e2]
def zr_cnt (s n : Nat) : Nat := ((List.range n).filter (fun x => Nat.testBit s x)).length
theorem zr_cnt_S (s n : Nat) : zr_cnt s (n + 1) = zr_cnt s n + ((s >>> n) &&& 1) := by
  unfold zr_cnt
  rw [List.range_succ, List.filter_append, List.length_append]
  congr 1
  have h1 : (s >>> n) &&& 1 < 2 := Nat.and_lt_two_pow (n := 1) _ (by decide)
  have h2 := tb1 (b := s) (k := n)
  cases z : Nat.testBit s n with
  | true => rw [h2.mpr z, List.filter_cons_of_pos z]; rfl
  | false =>
    have : ¬ (s >>> n) &&& 1 = 1 := fun q => by rw [h2.mp q] at z; cases z
    rw [List.filter_cons_of_neg (by rw [z]; decide)]
    show 0 = _
    omega
theorem zr_cnt_all : ((List.range 7).all fun n => (List.range 64).all fun s => !(Nat.blt s (2 ^ n)) || Nat.beq (zr_cnt s n) (zr_bits s)) = true := by decide +kernel
theorem zr_cnt_b {s n : Nat} (hn : n ≤ 6) (hs : s < 2 ^ n) : zr_cnt s n = zr_bits s ∧ s < 64 := by
  have h6 : 2 ^ n ≤ 2 ^ 6 := Nat.pow_le_pow_right (by decide) hn
  have h := zr_cnt_all
  rw [List.all_eq_true] at h
  have h := h n (List.mem_range.mpr (by omega))
  rw [List.all_eq_true] at h
  have h := h s (List.mem_range.mpr (by omega))
  have e1 : Nat.blt s (2 ^ n) = true := by rw [Nat.blt_eq]; exact hs
  rw [e1] at h
  exact ⟨Nat.eq_of_beq_eq_true h, by omega⟩
theorem i_shl {n : Nat} (hn : n ≤ 6) : (Int32.ofNat 1) <<< ((Int32.ofNat n) &&& 31) = (Int32.ofNat (2 ^ n)) := by
  have : n = 0 ∨ n = 1 ∨ n = 2 ∨ n = 3 ∨ n = 4 ∨ n = 5 ∨ n = 6 := by omega
  rcases this with rfl | rfl | rfl | rfl | rfl | rfl | rfl <;> decide
