/-! STAGE 3, 3: the twin's picture of the house -/
def oi (d : Int32) (o : Option Nat) : Int32 := match o with
  | none => d
  | some n => (Int32.ofNat n)
def rT_P (h : hh_T) (m : Nat) (P : zP) : Prop := hh_i h m 7 = (Int32.ofNat (zp_nd P)) ∧ zp_nd P ≤ 8 ∧ (∀ d, d < zp_nd P → hh_i h (m + 4) d = (Int32.ofNat (zp_sec P d)) ∧ 8 ≤ zp_sec P d ∧ zp_sec P d ≤ 64)
  ∧ (∀ d, d < 8 → hh_i h (m + 7) d = bi (!(zp_here P d)) ∧ hh_i h (m + 6) d = zp_wc P d ∧ (∀ s, s < 64 → hh_i h (m + 8) (64 * d + s) = bi (zp_dead P d s) ∧ hh_i h (m + 9) (64 * d + s) = bi (zp_stale P d s)) ∧ ∀ j, j < 512 → hh_i h (m + 10) (512 * d + j) = zp_by P d j)
  ∧ hh_i h m 15 = oi (Int32.ofInt (-1)) (zp_arm P) ∧ (∀ n, zp_arm P = some n → n ≤ 4000) ∧ hh_i h m 16 = (Int32.ofNat (zp_tear P)) ∧ zp_tear P < 8 ∧ hh_i h m 17 = zp_writes P ∧ hh_i h m 18 = zp_mended P
def rT_G (h : hh_T) (m : Nat) (G : zG) : Prop := hh_i h m 19 = (Int32.ofNat (zg_ng G)) ∧ zg_ng G ≤ 3 ∧ (∀ g, g < zg_ng G → hh_i h (m + 11) g = (Int32.ofNat (zg_ki G g)) ∧ hh_i h (m + 12) g = (Int32.ofNat (zg_chk G g)) ∧ hh_i h (m + 13) g = (Int32.ofNat (zg_many G g)) ∧ hh_i h (m + 14) g = (Int32.ofNat (zg_len G g)) ∧ ∀ x, x < zg_many G g → hh_i h (m + 15) (6 * g + x) = (Int32.ofNat (zg_dsk G g x)))
  ∧ ∀ d, d < 8 → hh_i h (m + 5) d = oi (Int32.ofInt (-1)) (zg_gof G d)
/-- a block at a place of the table -/
def tb (h : hh_T) (m p : Nat) (b : zB) : Prop := hh_i h (m + 20) p = (Int32.ofNat (zb_co b)) ∧ zb_co b ≤ 2 ∧ hh_i h (m + 21) p = (Int32.ofNat (zb_k b)) ∧ 1 ≤ zb_k b ∧ zb_k b ≤ 4 ∧ hh_i h (m + 22) p = (Int32.ofNat ((zb_cp b).length)) ∧ 1 ≤ (zb_cp b).length ∧ (zb_cp b).length ≤ 2
  ∧ (∀ c, c < (zb_cp b).length → hh_i h (m + 23) (2 * p + c) = (Int32.ofNat (((zb_cp b).getD c (0, 0)).1)) ∧ hh_i h (m + 24) (2 * p + c) = (Int32.ofNat (((zb_cp b).getD c (0, 0)).2))) ∧ hh_j h (m + 25) p = zb_su b ∧ hh_i h (m + 19) p = bi (zb_sh b).isSome
  ∧ ∀ l, zb_sh b = some l → l.length = 8 * zb_k b ∧ ∀ i, i < 8 * zb_k b → hh_i h (m + 26) (32 * p + i) = lf l i
/-- an entry -/
def tw_en (h : hh_T) (m r : Nat) (e : Int64 × Nat) : Prop := hh_i h (m + 53) r = (Int32.ofNat (e.2)) ∧ e.2 < 16 ∧ ∃ n, hh_i h (m + 54) r = (Int32.ofNat n) ∧ nm_ok (hh_i h (m + 56)) (8 * r) n = true ∧ nm_v (hh_i h (m + 56)) (8 * r) n = e.1
/-- an object -/
def tn (h : hh_T) (m q : Nat) (N : zN) : Prop := (∀ f, f < 8 → hh_i h (m + (40 + f)) q = (Int32.ofNat (zn_at N f)) ∧ zn_at N f < 2147483648) ∧ 1 ≤ zn_at N 0 ∧ zn_at N 0 ≤ 4 ∧ zn_at N 2 < 8 ∧ zn_at N 3 < 8 ∧ zn_at N 5 ≤ 256
  ∧ hh_i h (m + 49) q = (Int32.ofNat ((zn_rw N).length)) ∧ (zn_rw N).length ≤ 4 ∧ (∀ k, k < (zn_rw N).length → hh_i h (m + 50) (4 * q + k) = (Int32.ofNat (((zn_rw N).getD k (0, 0, 0)).1)) ∧ hh_i h (m + 51) (4 * q + k) = (Int32.ofNat (((zn_rw N).getD k (0, 0, 0)).2.1)) ∧ hh_i h (m + 52) (4 * q + k) = (Int32.ofNat (((zn_rw N).getD k (0, 0, 0)).2.2)) ∧ ((zn_rw N).getD k (0, 0, 0)).1 < 2 ∧ rt_w ((zn_rw N).getD k (0, 0, 0)).2.1 ∧ ((zn_rw N).getD k (0, 0, 0)).2.2 < 8)
  ∧ (zn_at N 0 = 2 → hh_i h (m + 48) q = (Int32.ofNat (zn_pa N)) ∧ zn_pa N < 16 ∧ zn_at N 5 = (zn_en N).length ∧ (zn_en N).length ≤ 8 ∧ (∀ j, j < (zn_en N).length → ∃ e, e ∈ zn_en N ∧ tw_en h m (8 * q + j) e) ∧ ∀ e, e ∈ zn_en N → ∃ j, j < (zn_en N).length ∧ tw_en h m (8 * q + j) e)
  ∧ (zn_at N 0 = 3 → zn_at N 5 = (zn_ph N).length ∧ (zn_ph N).length ≤ 24 ∧ ∀ i, i < (zn_ph N).length → hh_i h (m + 57) (24 * q + i) = lf (zn_ph N) i)
  ∧ ∀ k, k < 8 → (zn_pt N k = none ∧ hh_i h (m + 55) (8 * q + k) = Int32.ofInt (-1)) ∨ ∃ b p, zn_pt N k = some b ∧ p < 640 ∧ hh_i h (m + 55) (8 * q + k) = (Int32.ofNat p) ∧ tb h m p b ∧ (zn_at N 0 = 1 ∨ zn_at N 0 = 4)
/-- a tree in a slot -/
def tt (h : hh_T) (m t : Nat) (T : zT) : Prop := t < 96 ∧ hh_i h (m + 58) t = (Int32.ofNat (zt_ma T)) ∧ zt_ma T < 2147483648 ∧ ∀ o, o < 16 → (zt_ob T o = none ∧ hh_i h (m + 40) (16 * t + o) = (Int32.ofNat 0)) ∨ ∃ N, zt_ob T o = some N ∧ tn h m (16 * t + o) N
/-- a name -/
def tnm (h : hh_T) (m a p n : Nat) (v : Int64) : Prop := (n = 0 ∧ v = Int64.ofNat 0) ∨ (nm_ok (hh_i h (m + a)) p n = true ∧ nm_v (hh_i h (m + a)) p n = v)
/-- a set, at a place of the table -/
def td (h : hh_T) (m i : Nat) (d : zD) : Prop := hh_i h (m + 59) i = (Int32.ofNat (zd_no d)) ∧ zd_no d < 1000 ∧ hh_i h (m + 60) i = oi (Int32.ofInt (-2)) (zd_pa d) ∧ (∀ p, zd_pa d = some p → p < 1000) ∧ hh_i h (m + 61) i = (Int32.ofNat (zd_ki d)) ∧ zd_ki d ≤ 8 ∧ hh_i h (m + 62) i = oi (Int32.ofInt (-1)) (zd_og d) ∧ (∀ p, zd_og d = some p → p < 1000)
  ∧ (∃ t, hh_i h (m + 63) i = (Int32.ofNat t) ∧ tt h m t (zd_tr d)) ∧ (∃ n, hh_i h (m + 64) i = (Int32.ofNat n) ∧ n ≤ 8 ∧ tnm h m 67 (8 * i) n (zd_na d)) ∧ (∀ w, w < 5 → hh_i h (m + 65) (5 * i + w) = oi (Int32.ofInt (-1)) (zd_ow d w) ∧ ∀ v, zd_ow d w = some v → v ≤ 2) ∧ ∀ u, u < 9 → hh_i h (m + 66) (9 * i + u) = zd_qu d u
/-- a snapshot, at a place of the table, the pl-th of its set -/
def tk (h : hh_T) (m i : Nat) (k : zK) (pl : Nat) : Prop := hh_i h (m + 69) i = (Int32.ofNat (zk_no k)) ∧ zk_no k < 1000 ∧ hh_i h (m + 70) i = (Int32.ofNat (zk_se k)) ∧ zk_se k < 1000 ∧ hh_i h (m + 71) i = (Int32.ofNat pl) ∧ hh_i h (m + 72) i = (Int32.ofNat (zk_ho k)) ∧ zk_ho k ≤ 100 ∧ hh_i h (m + 73) i = (Int32.ofNat (zk_sm k)) ∧ zk_sm k < 2147483648 ∧ (∃ t, hh_i h (m + 74) i = (Int32.ofNat t) ∧ tt h m t (zk_tr k)) ∧ ∃ n, hh_i h (m + 75) i = (Int32.ofNat n) ∧ n ≤ 8 ∧ tnm h m 68 (8 * i) n (zk_na k)
/-- the place of a snapshot in the row of its set -/
def zu_pl (s : zU) (k : zK) : Nat := match zu_set s (zk_se k) with
  | none => 0
  | some d => (zd_sn d).idxOf (zk_no k)
/-- a state -/
def tu (h : hh_T) (m j : Nat) (s : zU) : Prop := (∀ k, k < 8 → hh_i h (m + 59) (8 * j + k) = Int32.ofInt (-1) ∨ ∃ d, d ∈ zu_sets s ∧ td h m (8 * j + k) d) ∧ (∀ d, d ∈ zu_sets s → ∃ k, k < 8 ∧ td h m (8 * j + k) d)
  ∧ (∀ k, k < 12 → hh_i h (m + 69) (12 * j + k) = Int32.ofInt (-1) ∨ ∃ x, x ∈ zu_snaps s ∧ tk h m (12 * j + k) x (zu_pl s x)) ∧ (∀ x, x ∈ zu_snaps s → ∃ k, k < 12 ∧ tk h m (12 * j + k) x (zu_pl s x))
  ∧ (∀ k k', k < 8 → k' < 8 → ¬ hh_i h (m + 59) (8 * j + k) = Int32.ofInt (-1) → hh_i h (m + 59) (8 * j + k) = hh_i h (m + 59) (8 * j + k') → k = k') ∧ (∀ k k', k < 12 → k' < 12 → ¬ hh_i h (m + 69) (12 * j + k) = Int32.ofInt (-1) → hh_i h (m + 69) (12 * j + k) = hh_i h (m + 69) (12 * j + k') → k = k')
  ∧ hh_i h (m + 76) j = (Int32.ofNat (zu_ns s)) ∧ zu_ns s < 1000 ∧ hh_i h (m + 77) j = (Int32.ofNat (zu_nk s)) ∧ zu_nk s < 1000
/-- slots of trees that count: of the living state, if the house is up, and of heads -/
def tw_st (h : hh_T) (m : Nat) (up : Bool) (n j : Nat) : Prop := (j = 0 ∧ up = true) ∨ ∃ k, k < n ∧ hh_i h (m + 78) k = (Int32.ofNat j)
def tw_sl (h : hh_T) (m : Nat) (up : Bool) (n t : Nat) : Prop := ∃ j, tw_st h m up n j ∧ j < 4 ∧ ((∃ k, k < 8 ∧ ¬ hh_i h (m + 59) (8 * j + k) = Int32.ofInt (-1) ∧ hh_i h (m + 63) (8 * j + k) = (Int32.ofNat t)) ∨ ∃ k, k < 12 ∧ ¬ hh_i h (m + 69) (12 * j + k) = Int32.ofInt (-1) ∧ hh_i h (m + 74) (12 * j + k) = (Int32.ofNat t))
/-- blocks of the table that trees in slots lead to -/
def tw_us (h : hh_T) (m : Nat) (L : Nat → Prop) (p : Nat) : Prop := ∃ t o k, L t ∧ t < 96 ∧ o < 16 ∧ k < 8 ∧ ¬ hh_i h (m + 40) (16 * t + o) = (Int32.ofNat 0) ∧ hh_i h (m + 55) (8 * (16 * t + o) + k) = (Int32.ofNat p)
def rT_E (h : hh_T) (m : Nat) (E : zE) : Prop := hh_i h m 76 = bi (ze_house E) ∧ hh_i h m 77 = bi (ze_up E) ∧ (ze_up E = true → tu h m 0 (ze_liv E) ∧ hh_i h m 100 = (Int32.ofNat (zu_no (ze_liv E))) ∧ zu_no (ze_liv E) < 2147483000)
  ∧ hh_i h m 99 = (Int32.ofNat ((ze_heads E).length)) ∧ (ze_heads E).length ≤ 3 ∧ (∀ k s, (ze_heads E)[k]? = some s → ∃ j, hh_i h (m + 78) k = (Int32.ofNat j) ∧ 1 ≤ j ∧ j < 4 ∧ hh_i h (m + 79) k = (Int32.ofNat (zu_no s)) ∧ zu_no s < 2147483000 ∧ tu h m j s)
  ∧ (∀ k k', k < (ze_heads E).length → k' < (ze_heads E).length → hh_i h (m + 78) k = hh_i h (m + 78) k' → k = k')
  ∧ (∀ p q, p < 640 → q < 640 → tw_us h m (tw_sl h m (ze_up E) (ze_heads E).length) p → tw_us h m (tw_sl h m (ze_up E) (ze_heads E).length) q → hh_i h (m + 23) (2 * p) = hh_i h (m + 23) (2 * q) → hh_i h (m + 24) (2 * p) = hh_i h (m + 24) (2 * q) → p = q)
  ∧ ∀ p, p < 640 → tw_us h m (tw_sl h m (ze_up E) (ze_heads E).length) p → hh_i h (m + 17) p = (Int32.ofNat 1)
/-- a block of the table that is in use -/
def tw_uN (h : hh_T) (m p : Nat) : Prop := tw_us h m (tw_sl h m (decide (hh_i h m 77 = (Int32.ofNat 1))) (hh_i h m 99).toNatClampNeg) p
/-- a list of places of the table -/
def rL1 (h : hh_T) (m l : Nat) (L : List Nat) : Prop := hh_i h (m + 33) l = (Int32.ofNat (L.length)) ∧ L.length ≤ 12 ∧ ∀ j, j < L.length → hh_i h (m + 32) (16 * l + j) = (Int32.ofNat (L.getD j 0)) ∧ L.getD j 0 < 640
def rL (h : hh_T) (m : Nat) (I : Nat → List Nat) : Prop := ∀ l, l < 4 → rL1 h m l (I l)
/-- the cache: lists of places of the table -/
def rT_C (h : hh_T) (m : Nat) (C : zC) : Prop := (∃ (I : Nat → List Nat) (f : Nat → zB), rL h m I ∧ (∀ l, l < 4 → zc_ls C l = (I l).map f) ∧ ∀ l p, l < 4 → p ∈ I l → p < 640 ∧ tb h m p (f p) ∧ tw_uN h m p ∧ (l < 2 → ∀ i, i < 32 → hh_i h (m + 36) (32 * p + i) = zc_hd C (zb_key (f p)) i))
  ∧ hh_i h m 46 = (Int32.ofNat (zc_aim C)) ∧ zc_aim C ≤ 6 ∧ hh_i h m 47 = zc_hits C ∧ hh_i h m 48 = zc_miss C
/-- a change in the log -/
def tw_lg (h : hh_T) (m a : Nat) (c : zH) : Prop := (∀ f, f < 8 → (hh_i h (m + 82) (a + f) = (Int32.ofNat (zh_f c f)) ∨ (zh_f c 0 = 6 ∧ zh_f c 3 = 2 ∧ (f = 4 ∨ f = 5))) ∧ zh_f c f < 2147483648) ∧ 1 ≤ zh_f c 0 ∧ zh_f c 0 ≤ 11
  ∧ ∃ n k, hh_i h (m + 82) (a + 8) = (Int32.ofNat n) ∧ hh_i h (m + 82) (a + 9) = (Int32.ofNat k) ∧ n ≤ 256 ∧ k ≤ 24 ∧ n + k ≤ 256
    ∧ (zh_f c 0 ≤ 4 → nm_ok (hh_i h (m + 82)) (a + 10) n = true ∧ nm_v (hh_i h (m + 82)) (a + 10) n = zh_n1 c) ∧ (zh_f c 0 = 4 → nm_ok (hh_i h (m + 82)) (a + 10 + n) k = true ∧ nm_v (hh_i h (m + 82)) (a + 10 + n) k = zh_n2 c)
    ∧ (zh_f c 0 = 1 → zh_by c = lm (hh_i h (m + 82)) (a + 10 + n) k) ∧ ((zh_f c 0 = 7 ∨ (zh_f c 0 = 11 ∧ ¬ zh_f c 3 = 1)) → zh_by c = lm (hh_i h (m + 82)) (a + 10) n) ∧ (zh_f c 0 = 2 ∨ zh_f c 0 = 3 → zh_by c = []) ∧ (∀ i, i < n + k → gy_b (hh_i h (m + 82) (a + 10 + i)))
def tw_of (h : hh_T) (m f : Nat) (x : Option zO) : Prop := match x with
  | none => hh_i h (m + 88) f = (Int32.ofNat 0)
  | some o => hh_i h (m + 88) f = (Int32.ofNat 1) ∧ hh_i h (m + 90) f = (Int32.ofNat (zo_tree o)) ∧ zo_tree o < 2000 ∧ hh_i h (m + 91) f = (Int32.ofNat (zo_obj o)) ∧ zo_obj o < 16 ∧ hh_i h (m + 92) f = (Int32.ofNat (zo_flags o)) ∧ zo_flags o < 128 ∧ hh_i h (m + 93) f = (Int32.ofNat (zo_place o)) ∧ zo_place o ≤ 256
    ∧ hh_i h (m + 94) f = (Int32.ofNat (zo_lease o)) ∧ zo_lease o ≤ 2 ∧ hh_i h (m + 89) f = bi (zo_rec o).isSome ∧ (∀ r, zo_rec o = some r → hh_i h (m + 95) f = (Int32.ofNat r) ∧ r ≤ 2000000000 ∧ 0 < zo_lease o) ∧ ∀ k, k < 1001 → hh_i h (m + 96) (1001 * f + k) = (Int32.ofNat (zo_lk o k)) ∧ zo_lk o k ≤ 2
def tw_wa (h : hh_T) (m w : Nat) (x : Option zW) : Prop := match x with
  | none => hh_i h (m + 97) w = (Int32.ofNat 0)
  | some W => hh_i h (m + 97) w = (Int32.ofNat 1) ∧ hh_i h (m + 98) w = bi (zw_losing W) ∧ hh_i h (m + 99) w = (Int32.ofNat (zw_set W)) ∧ zw_set W < 1000 ∧ hh_i h (m + 100) w = (Int32.ofNat (zw_folder W)) ∧ zw_folder W < 16 ∧ hh_i h (m + 101) w = (Int32.ofNat ((zw_rows W).length)) ∧ (zw_rows W).length ≤ 6 ∧ ∀ k, k < (zw_rows W).length → hh_i h (m + 102) (6 * w + k) = (zw_rows W).getD k 0
def tw_kp (h : hh_T) (m c : Nat) (x : Option (zBy × zBy)) : Prop := match x with
  | none => hh_i h (m + 117) c = Int32.ofInt (-1)
  | some q => hh_i h (m + 117) c = (Int32.ofNat (q.1.length)) ∧ 2 ≤ q.1.length ∧ q.1.length ≤ 320 ∧ (∀ i, i < q.1.length → hh_i h (m + 119) (320 * c + i) = lf q.1 i) ∧ hh_i h (m + 118) c = (Int32.ofNat (q.2.length)) ∧ q.2.length ≤ 320 ∧ ∀ i, i < q.2.length → hh_i h (m + 120) (512 * c + i) = lf q.2 i
def rT_F (h : hh_T) (m : Nat) (F : zF) : Prop := (∀ f, f < 8 → tw_of h m f (zf_fl F f)) ∧ (∀ w, w < 4 → tw_wa h m w (zf_wt F w)) ∧ (∀ c, c < 4 → tw_kp h m c (zf_kp F c))
  ∧ ∀ c i, c < 4 → i < 8 → (hh_i h (m + 116) (8 * c + i) = (Int32.ofNat 0) ∧ ∀ n, n < 1000 → hh_i h (m + 59) i = (Int32.ofNat n) → ¬ zf_ho F n = some c) ∨ (hh_i h (m + 116) (8 * c + i) = (Int32.ofNat 1) ∧ ∃ n, n < 1000 ∧ hh_i h (m + 59) i = (Int32.ofNat n) ∧ zf_ho F n = some c)
def rT_X (h : hh_T) (m : Nat) (X : Nat → zBy × zV) : Prop := ∀ x, x < 2 → hh_i h (m + 115) x = (Int32.ofNat ((X x).1.length)) ∧ (X x).1.length ≤ 6000 ∧ (∀ i, i < (X x).1.length → hh_i h (m + 112) (6100 * x + i) = lf (X x).1 i) ∧ (¬ (X x).1 = [] → (zy_enc (X x).2).length = (X x).1.length ∧ ∀ i, i < (X x).1.length → hh_i h (m + 113) (6100 * x + i) = lf (zy_enc (X x).2) i)
def rT_M (h : hh_T) (m : Nat) (M : zM) : Prop := hh_i h m 49 = (Int32.ofNat (zm_ne M)) ∧ zm_ne M < 1000000000 ∧ (zm_er M).length = min 16 (zm_ne M) ∧ (∀ k, k < (zm_er M).length → hh_i h (m + 34) k = (zm_er M).getD k 0) ∧ hh_i h m 42 = zm_dbl M ∧ hh_i h m 102 = (Int32.ofNat (zm_starts M)) ∧ zm_starts M < 1000000000 ∧ hh_i h m 101 = (Int32.ofNat (zm_stamps M)) ∧ zm_stamps M < 1000000000 ∧ hh_i h m 139 = (Int32.ofNat (zm_spos M)) - (Int32.ofNat 1) ∧ zm_spos M ≤ 1152
/-- rows of changes: by the place of a set in the latest head -/
def rT_R (h : hh_T) (m : Nat) (E : zE) (R : Nat → List zH × Nat) : Prop := (ze_heads E = [] → ∀ i, i < 8 → hh_i h (m + 80) i = (Int32.ofNat 0) ∧ hh_i h (m + 81) i = (Int32.ofNat 0)) ∧ (∀ j, hh_i h (m + 78) 0 = (Int32.ofNat j) → j < 4 → ¬ ze_heads E = [] → ∀ i, i < 8 →
    (hh_i h (m + 59) (8 * j + i) = Int32.ofInt (-1) → hh_i h (m + 80) i = (Int32.ofNat 0) ∧ hh_i h (m + 81) i = (Int32.ofNat 0))
    ∧ ∀ n, n < 1000 → hh_i h (m + 59) (8 * j + i) = (Int32.ofNat n) → hh_i h (m + 80) i = (Int32.ofNat ((R n).1.length)) ∧ hh_i h (m + 81) i = (Int32.ofNat ((R n).2)) ∧ (R n).2 ≤ (R n).1.length ∧ (R n).1.length < 100000 ∧ (∀ k c, k < 16 → (R n).1[k]? = some c → tw_lg h m (290 * (16 * i + k)) c))
  ∧ (∀ n, (∀ s, (ze_heads E)[0]? = some s → zu_set s n = none) → R n = ([], 0))
  ∧ (ze_up E = true → ∀ j, hh_i h (m + 78) 0 = (Int32.ofNat j) → j < 4 → ∀ i, i < 8 → hh_i h (m + 59) i = hh_i h (m + 59) (8 * j + i))
/-- all of the twin, at rest -/
def rT (h : hh_T) (m : Nat) (S : zS) : Prop := tw_ok h m ∧ rT_A h m (zs_A S) ∧ rT_P h m (zs_P S) ∧ rT_G h m (zs_G S) ∧ rT_E h m (zs_E S) ∧ rT_C h m (zs_C S) ∧ rT_R h m (zs_E S) (zs_R S) ∧ rT_F h m (zs_F S) ∧ rT_X h m (zs_X S) ∧ rT_M h m (zs_M S) ∧ hh_i h m 111 = (Int32.ofNat 0) ∧ hh_i h m 112 = (Int32.ofNat 0) ∧ hh_i h m 110 = (Int32.ofNat 0)
