/-! STAGE 3: writing new blocks: only the bytes that are stored count -/
theorem zp_lay_c (P : zP) (w : Nat × Nat × (Nat → Int32)) (r : List (Nat × Nat × (Nat → Int32))) : zp_lay P (w :: r) = if (zp_wr P w.1 w.2.1 w.2.2).2 then zp_lay (zp_wr P w.1 w.2.1 w.2.2).1 r else ((zp_wr P w.1 w.2.1 w.2.2).1, false) := rfl
theorem zp_lay_cg {α : Type} {en en' : α → Nat × Nat × (Nat → Int32)} : ∀ (L : List α) (P : zP), zp_tear P ≤ 8 → (∀ q, q ∈ L → (en q).1 = (en' q).1 ∧ (en q).2.1 = (en' q).2.1 ∧ ∀ i, i < 8 → (en q).2.2 i = (en' q).2.2 i) → zp_lay P (L.map en) = zp_lay P (L.map en') ∧ zp_tear (zp_lay P (L.map en)).1 = zp_tear P
  | [], P, _, _ => ⟨rfl, rfl⟩
  | x :: L, P, ht, e => by
    obtain ⟨e1, e2, e3⟩ := e x (List.mem_cons_self ..)
    rw [List.map_cons, List.map_cons, zp_lay_c, zp_lay_c, e1, e2, zp_wr_c ht e3]
    have eL : ∀ q, q ∈ L → (en q).1 = (en' q).1 ∧ (en q).2.1 = (en' q).2.1 ∧ ∀ i, i < 8 → (en q).2.2 i = (en' q).2.2 i := fun q hq => e q (List.mem_cons_of_mem _ hq)
    have ht2 := zp_wr_tear P (en' x).1 (en' x).2.1 (en' x).2.2
    split
    · obtain ⟨q1, q2⟩ := zp_lay_cg (en := en) (en' := en') L (zp_wr P (en' x).1 (en' x).2.1 (en' x).2.2).1 (by rw [ht2]; exact ht) eL
      exact ⟨q1, q2.trans ht2⟩
    · exact ⟨rfl, ht2⟩
theorem zg_wl_lay {P0 : zP} {G : zG} {g a k : Nat} {f f' : Nat → Int32} (K : zg_ok P0 G) (hg : g < zg_ng G) (e : ∀ i, i < 8 * k → f i = f' i) (P : zP) (ht : zp_tear P ≤ 8) : zp_lay P (zg_wl G g a k f) = zp_lay P (zg_wl G g a k f') ∧ zp_tear (zp_lay P (zg_wl G g a k f)).1 = zp_tear P := by
  have fm : ∀ f, zg_wl G g a k f = ((List.range (zg_rd G g)).flatMap (fun x => (List.range (zg_sp G g k)).map (fun j => (x, j)))).map (fun q => zg_en G g a k f q.1 q.2) := by
    intro f
    rw [zg_wl_eq, List.map_flatMap]
    congr 1
    funext x
    rw [List.map_map]
    rfl
  rw [fm f, fm f']
  refine zp_lay_cg _ P ht (fun q hq => ?_)
  rw [List.mem_flatMap] at hq
  obtain ⟨x, -, hq⟩ := hq
  rw [List.mem_map] at hq
  obtain ⟨j, hj, rfl⟩ := hq
  rw [List.mem_range] at hj
  unfold zg_en
  cases zg_par G g
  · exact ⟨rfl, rfl, fun i hi => zg_im_cg K hg e hj hi⟩
  · exact ⟨rfl, rfl, fun i hi => zg_im_cg K hg e hj hi⟩
theorem zp_cpl_cg {P0 : zP} {G : zG} {k : Nat} {f f' : Nat → Int32} (K : zg_ok P0 G) (e : ∀ i, i < 8 * k → f i = f' i) : ∀ (L : List (Nat × Nat)) (P : zP), zp_tear P ≤ 8 → (∀ c, c ∈ L → c.1 < zg_ng G) → zp_cps zp_lay G k f P L = zp_cps zp_lay G k f' P L ∧ zp_tear (zp_cps zp_lay G k f P L).1 = zp_tear P
  | [], _, _, _ => ⟨rfl, rfl⟩
  | c :: L, P, ht, hL => by
    obtain ⟨q1, q2⟩ := zg_wl_lay (a := c.2) K (hL c (List.mem_cons_self ..)) e P ht
    rw [zp_cps_c, zp_cps_c, q1]
    rw [q1] at q2
    split
    · obtain ⟨r1, r2⟩ := zp_cpl_cg K e L (zp_lay P (zg_wl G c.1 c.2 k f')).1 (by rw [q2]; exact ht) (fun c hc => hL c (List.mem_cons_of_mem _ hc))
      exact ⟨r1, r2.trans q2⟩
    · exact ⟨rfl, q2⟩
theorem zp_cpl_nd {G : zG} {k : Nat} {f : Nat → Int32} : ∀ (L : List (Nat × Nat)) (P : zP), zp_nd (zp_cps zp_lay G k f P L).1 = zp_nd P ∧ zp_sec (zp_cps zp_lay G k f P L).1 = zp_sec P
  | [], _ => ⟨rfl, rfl⟩
  | c :: L, P => by
    obtain ⟨q1, q2⟩ := zp_lay_nd G (zg_wl G c.1 c.2 k f) P
    rw [zp_cps_c]
    split
    · obtain ⟨p1, p2⟩ := zp_cpl_nd (G := G) (k := k) (f := f) L (zp_lay P (zg_wl G c.1 c.2 k f)).1
      exact ⟨p1.trans q1, p2.trans q2⟩
    · exact ⟨q1, q2⟩
