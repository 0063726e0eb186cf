/-! THE HOUSE AS IT IS, 2: reading blocks, the cache, finding places -/
def zr_out (P : zP) (G : zG) (g o p : Nat) : Bool := Nat.testBit o (p % zg_many G g) || zp_mi P (zg_dsk G g (p % zg_many G g)) (p / zg_many G g)
def zr_b (P : zP) (G : zG) (g p i : Nat) : Nat := vz (zp_by P (zg_dsk G g (p % zg_many G g)) (8 * (p / zg_many G g) + i))
/-- one step of solving: line c is made to begin with 1, and taken from the others -/
def zl_st (c : Nat) (X : Nat → Nat → Nat) : Nat → Nat → Nat := fun a b => if a = c then gt (X c b) (gp (X c c) 254) else X a b ^^^ gt (X a c) (gt (X c b) (gp (X c c) 254))
def zl_el (X : Nat → Nat → Nat) : Nat → Nat → Nat → Nat
  | 0 => X
  | c + 1 => zl_st c (zl_el X c)
/-- what the checks K take of the places U, and 1 at the same number behind -/
def zl_m (K U : List Nat) : Nat → Nat → Nat := fun a b => if b < U.length then pw (K.getD a 0 * U.getD b 0) else if b = U.length + a then 1 else 0
def zl_sum (f : Nat → Nat) : Nat → Nat
  | 0 => 0
  | n + 1 => zl_sum f n ^^^ f n
/-- unknown number b out of what is left of the checks -/
def zl_so (K U : List Nat) (v : Nat → Nat) (b : Nat) : Nat := zl_sum (fun a => gt (zl_el (zl_m K U) U.length b (U.length + a)) (v a)) U.length
/-- byte i of datum e of a row at p with m checks and r data, disks of o left out; none if too much is missing -/
def zr_U (P : zP) (G : zG) (g o p r : Nat) : List Nat := (List.range r).filter (fun e => zr_out P G g o (p + zg_chk G g + e))
def zr_K (P : zP) (G : zG) (g o p : Nat) : List Nat := (List.range (zg_chk G g)).filter (fun j => !(zr_out P G g o (p + j)))
def zr_v (P : zP) (G : zG) (g o p r i a : Nat) : Nat := zr_b P G g (p + (zr_K P G g o p).getD a 0) i ^^^ zl_sum (fun e => if zr_out P G g o (p + zg_chk G g + e) then 0 else gt (pw ((zr_K P G g o p).getD a 0 * e)) (zr_b P G g (p + zg_chk G g + e) i)) r
def zr_ok (P : zP) (G : zG) (g o p r : Nat) : Bool := decide ((zr_U P G g o p r).length ≤ (zr_K P G g o p).length)
def zr_d (P : zP) (G : zG) (g o p r e i : Nat) : Nat := match ffi (fun b => decide ((zr_U P G g o p r).getD b 0 = e)) (zr_U P G g o p r).length 0 with
  | some b => zl_so ((zr_K P G g o p).take (zr_U P G g o p r).length) (zr_U P G g o p r) (zr_v P G g o p r i) b
  | none => zr_b P G g (p + zg_chk G g + e) i
/-- a try at a copy of a parity group, disks of o left out -/
def zr_par (P : zP) (G : zG) (g o p k : Nat) : Option (Nat → Int32) × Bool :=
  (if (List.range ((k + (zg_many G g - zg_chk G g) - 1) / (zg_many G g - zg_chk G g))).all (fun q => zr_ok P G g o (p + q * zg_many G g) (min (zg_many G g - zg_chk G g) (k - q * (zg_many G g - zg_chk G g))))
    then some (fun j => byt (Int32.ofNat (zr_d P G g o (p + j / 8 / (zg_many G g - zg_chk G g) * zg_many G g) (min (zg_many G g - zg_chk G g) (k - j / 8 / (zg_many G g - zg_chk G g) * (zg_many G g - zg_chk G g))) (j / 8 % (zg_many G g - zg_chk G g)) (j % 8)))) else none,
   (List.range k).any (fun s => zp_mi P (zg_dsk G g ((p + s / (zg_many G g - zg_chk G g) * zg_many G g + zg_chk G g + s % (zg_many G g - zg_chk G g)) % zg_many G g)) ((p + s / (zg_many G g - zg_chk G g) * zg_many G g + zg_chk G g + s % (zg_many G g - zg_chk G g)) / zg_many G g)))
def zr_mir (P : zP) (G : zG) (g x p k : Nat) : Option (Nat → Int32) × Bool :=
  (if (List.range k).all (fun j => !(zp_mi P (zg_dsk G g x) (p + j))) then some (fun j => zp_by P (zg_dsk G g x) (8 * p + j)) else none, false)
def zr_bits (s : Nat) : Nat := ((List.range 6).filter (fun x => Nat.testBit s x)).length
/-- sets of n disks, those with fewer first -/
def zr_ord (n : Nat) : List Nat := (List.range (n + 1)).flatMap (fun c => (List.range (2 ^ n)).filter (fun s => decide (zr_bits s = c)))
/-- the tries at a copy -/
def zr_try (P : zP) (G : zG) (k : Nat) (c : Nat × Nat) : List (Option (Nat → Int32) × Bool) :=
  if zg_par G c.1 then (zr_ord (zg_many G c.1)).map (fun o => zr_par P G c.1 o c.2 k) else (List.range (zg_many G c.1)).map (fun x => zr_mir P G c.1 x c.2 k)
/-- 32 bytes of n stored ones -/
def zd_r (co : Nat) (f : Nat → Int32) (n : Nat) : Option (zBy × Nat) := if co = 0 then (if n < 32 then none else some (lm f 0 32, 32)) else if co = 1 then dz f n 33 0 [] else dp f n 33 0 []
def zd_tail (f : Nat → Int32) (t n : Nat) : Bool := (List.range n).all (fun i => decide (i < t) || decide (f i = (Int32.ofNat 0)))
def zd_c (co : Nat) (f : Nat → Int32) (n : Nat) : Option zBy := match zd_r co f n with
  | none => none
  | some (o, t) => if n - t < 8 ∧ zd_tail f t n = true then some o else none
def zr_fit (b : zB) (f : Nat → Int32) : Option zBy := if sm f (8 * zb_k b) = zb_su b then zd_c (zb_co b) f (8 * zb_k b) else none
/-- the first try that fits: the bytes as stored, the block's bytes, whether something is to be mended -/
def zr_find (fit : (Nat → Int32) → Option zBy) : List (Option (Nat → Int32) × Bool) → Bool → Option ((Nat → Int32) × zBy × Bool)
  | [], _ => none
  | t :: r, first => match t.1 with
    | none => zr_find fit r false
    | some f => (match fit f with
      | none => zr_find fit r false
      | some o => some (f, o, !first || t.2))
def zr_blk (P : zP) (G : zG) (b : zB) : Option ((Nat → Int32) × zBy × Bool) := zr_find (zr_fit b) ((zb_cp b).flatMap (zr_try P G (zb_k b))) true
/-- the house goes down -/
def zs_fall (S : zS) : zS :=
  zs_F_ (zs_R_ (zs_C_ (zs_E_ S (ze_up_ (zs_E S) false)) (zc_aim_ (zc_ls_ (zs_C S) (fun _ => [])) 0)) (fun n => ((zs_R S n).1.take (zs_R S n).2, (zs_R S n).2)))
    (fun _ => none, fun _ => none, fun _ => none, fun _ => none)
def zs_err (S : zS) (b : zB) : zS := zs_M_ S (zm_ne_ (zm_er_ (zs_M S) (((Int32.ofNat (512 * (zb_key b).1 + (zb_key b).2)) :: zm_er (zs_M S)).take 16)) (zm_ne (zs_M S) + 1))
/-- a block is read from disks, and mended if it must be: a code, its bytes -/
def zs_fetch (S : zS) (b : zB) (always : Bool) : zS × Int32 × zBy := match zr_blk (zs_P S) (zs_G S) b with
  | none => (zs_err S b, (Int32.ofInt (-8)), [])
  | some (f, o, m) => if m || always then (if (zp_cps zp_men (zs_G S) (zb_k b) f (zs_P S) (zb_cp b)).2 then (zs_P_ S (zp_cps zp_men (zs_G S) (zb_k b) f (zs_P S) (zb_cp b)).1, (Int32.ofNat 0), o)
      else (zs_fall (zs_P_ S (zp_cps zp_men (zs_G S) (zb_k b) f (zs_P S) (zb_cp b)).1), (Int32.ofInt (-12)), [])) else (S, (Int32.ofNat 0), o)
def zb_eq (a b : zB) : Bool := decide (zb_key a = zb_key b)
/-- the list that a block is in -/
def zc_in (C : zC) (b : zB) : Option Nat := (List.range 4).find? (fun l => (zc_ls C l).any (zb_eq b))
def zc_leave (C : zC) (b : zB) : zC := zc_ls_ C (fun l => (zc_ls C l).filter (fun c => !(zb_eq b c)))
def zc_come (C : zC) (l : Nat) (b : zB) : zC := zc_ls_ C (fu (zc_ls C) l (zc_ls C l ++ [b]))
def zc_old (C : zC) (l : Nat) : zC := match zc_ls C l with
  | [] => C
  | b :: _ => zc_leave C b
def zc_mv (C : zC) (l t : Nat) : zC := match zc_ls C l with
  | [] => C
  | b :: _ => zc_come (zc_leave C b) t b
def zc_n (C : zC) (l : Nat) : Nat := (zc_ls C l).length
def zc_room (C : zC) (g2 : Bool) : zC := if 0 < zc_n C 0 ∧ (zc_aim C < zc_n C 0 ∨ zc_n C 0 = zc_aim C ∧ g2 = true) then zc_mv C 0 2 else if 0 < zc_n C 1 then zc_mv C 1 3 else C
/-- a block was read from disks -/
def zc_missed (C : zC) (b : zB) : zC :=
  if zc_in C b = some 2 then zc_come (zc_leave (zc_room (zc_aim_ C (min 6 (zc_aim C + max 1 (zc_n C 3 / zc_n C 2)))) false) b) 1 b
  else if zc_in C b = some 3 then zc_come (zc_leave (zc_room (zc_aim_ C (zc_aim C - max 1 (zc_n C 2 / zc_n C 3))) true) b) 1 b
  else zc_come (if zc_n C 0 + zc_n C 2 = 6 then (if 0 < zc_n C 2 then zc_room (zc_old C 2) false else zc_old C 0)
    else if 6 ≤ zc_n C 0 + zc_n C 1 + zc_n C 2 + zc_n C 3 then zc_room (if zc_n C 0 + zc_n C 1 + zc_n C 2 + zc_n C 3 = 12 then zc_old C 3 else C) false else C) 0 b
/-- a block is read -/
def zs_read (S : zS) (b : zB) : zS × Int32 × zBy :=
  if zc_in (zs_C S) b = some 0 ∨ zc_in (zs_C S) b = some 1 then
    (zs_C_ S (zc_come (zc_leave (zc_hits_ (zs_C S) (zc_hits (zs_C S) + (Int32.ofNat 1))) b) 1 b), (Int32.ofNat 0), lm (zc_hd (zs_C S) (zb_key b)) 0 32)
  else if (zs_fetch S b false).2.1 = (Int32.ofInt (-12)) then zs_fetch S b false
  else if (zs_fetch S b false).2.1 = (Int32.ofNat 0) then
    (zs_C_ (zs_fetch S b false).1 (zc_hd_ (zc_missed (zc_miss_ (zs_C S) (zc_miss (zs_C S) + (Int32.ofNat 1))) b) (fun q => if q = zb_key b then lf (zs_fetch S b false).2.2 else zc_hd (zs_C S) q)), (Int32.ofNat 0), (zs_fetch S b false).2.2)
  else (zs_C_ (zs_fetch S b false).1 (zc_miss_ (zs_C S) (zc_miss (zs_C S) + (Int32.ofNat 1))), (zs_fetch S b false).2.1, [])
/-- blocks that trees lead to -/
def zu_n (N : zN) : List zB := (List.range 8).filterMap (zn_pt N)
def zu_t (T : zT) : List zB := (List.range 16).flatMap (fun o => match zt_ob T o with | none => [] | some N => zu_n N)
def zu_s (s : zU) : List zB := (zu_sets s).flatMap (fun d => zu_t (zd_tr d)) ++ (zu_snaps s).flatMap (fun k => zu_t (zk_tr k))
def zu_e (E : zE) : List zB := (if ze_up E then zu_s (ze_liv E) else []) ++ (ze_heads E).flatMap zu_s
def zl_tk (G : zG) (U : List zB) (g p : Nat) : Bool := U.any (fun b => (zb_cp b).any (fun c => decide (c.1 = g) && decide (c.2 ≤ p) && decide (p < c.2 + zg_sp G g (zb_k b))))
def zl_fr (G : zG) (U : List zB) (g t : Nat) : Option Nat := ffi (fun a => (List.range t).all (fun n => !(zl_tk G U g (a + n)))) (zg_pl G g + 1 - t) 0
def zl_nf (G : zG) (U : List zB) (g : Nat) : Nat := ((List.range (zg_pl G g)).filter (fun p => !(zl_tk G U g p))).length
def zl_ch (P : zP) (G : zG) (U : List zB) (k : Nat) (but : Option Nat) : Option Nat := (List.range (zg_ng G)).foldl (fun best g =>
  if some g = but ∨ zg_fit P G g = false ∨ zl_fr G U g (zg_sp G g k) = none then best else (match best with
    | none => some g
    | some b => if zl_nf G U b < zl_nf G U g then some g else some b)) none
/-- groups and places for n copies; none without space -/
def zl_cp (P : zP) (G : zG) (U : List zB) (k n : Nat) : Option (List (Nat × Nat)) := match zl_ch P G U k none with
  | none => none
  | some g => (match zl_fr G U g (zg_sp G g k) with
    | none => none
    | some p => if n < 2 then some [(g, p)] else (match (zl_ch P G ((0, k, [(g, p)], 0, none) :: U) k (some g)).orElse (fun _ => zl_ch P G ((0, k, [(g, p)], 0, none) :: U) k none) with
      | none => none
      | some g2 => (match zl_fr G ((0, k, [(g, p)], 0, none) :: U) g2 (zg_sp G g2 k) with
        | none => none
        | some p2 => some [(g, p), (g2, p2)])))
/-- 32 bytes as they are stored: the coder that is used, the bytes -/
def zl_pad (l : zBy) : zBy := l ++ List.replicate ((8 - l.length % 8) % 8) (Int32.ofNat 0)
def zl_code (co : Nat) (f : Nat → Int32) : Nat × zBy :=
  if co = 0 then (0, lm f 0 32) else if 24 < (if co = 1 then zc (ze f) f 33 0 else pc (mt f) (lt f) 33 0 0).length then (0, lm f 0 32) else (co, zl_pad (if co = 1 then zc (ze f) f 33 0 else pc (mt f) (lt f) 33 0 0))
def zl_hole (f : Nat → Int32) : Bool := (List.range 32).all (fun i => decide (f i = (Int32.ofNat 0)))
/-- a block for 32 bytes, U in use: none without space; a hole; one that is there; a new one, with its bytes -/
def zl_plan (P : zP) (G : zG) (U : List zB) (co n : Nat) (shared : Bool) (f : Nat → Int32) : Option (Option zB × Option zBy) :=
  if zl_hole f then some (none, none) else match (if shared then U.find? (fun b => decide (zb_co b = (zl_code co f).1) && decide (zb_k b = (zl_code co f).2.length / 8) && decide (zb_sh b = some (zl_code co f).2)) else none) with
    | some b => some (some b, none)
    | none => (match zl_cp P G U ((zl_code co f).2.length / 8) n with
      | none => none
      | some c => some (some ((zl_code co f).1, (zl_code co f).2.length / 8, c, sm (lf (zl_code co f).2) (zl_code co f).2.length, if shared then some (zl_code co f).2 else none), some (zl_code co f).2))
/-- new blocks are written; false when power fails -/
def zp_new (G : zG) : zP → List (zB × zBy) → zP × Bool
  | P, [] => (P, true)
  | P, w :: r => if (zp_cps zp_lay G (zb_k w.1) (lf w.2) P (zb_cp w.1)).2 then zp_new G (zp_cps zp_lay G (zb_k w.1) (lf w.2) P (zb_cp w.1)).1 r else ((zp_cps zp_lay G (zb_k w.1) (lf w.2) P (zb_cp w.1)).1, false)
