/-! THE HOUSE AS IT IS, 3: trees, ways, changes, turns -/
/-- whether a user has all rights of a mask to an object -/
def zn_al (A : zA) (N : zN) (u : Nat) (mask : Int32) : Bool := decide (u = 0) || rt_m (fun rg => rt_1 (fun i => bi (za_cls A i)) u (Int32.ofNat (zn_at N 2)) (zn_at N 3) (Int32.ofNat (zn_at N 1)) (zn_rw N).length (fun k => (Int32.ofNat (((zn_rw N).getD k (0, 0, 0)).1))) (fun k => (Int32.ofNat (((zn_rw N).getD k (0, 0, 0)).2.2))) (fun k => ((zn_rw N).getD k (0, 0, 0)).2.1) rg) mask
/-- what a name leads to -/
def zn_f (N : zN) (n : Int64) : Option Nat := ((zn_en N).find? (fun x => decide (x.1 = n))).map (fun x => x.2)
/-- goes a path: an object, or a code -/
def zw_go (T : zT) (al : zN → Bool) (follow : Bool) : Nat → zBy → Nat → Nat → Int32
  | 0, _, _, _ => (Int32.ofInt (-15))
  | F + 1, w, o, n => if w = [] then (Int32.ofNat o) else match zt_ob T o with
    | none => (Int32.ofInt (-10))
    | some N => if ¬ zn_at N 0 = 2 then (Int32.ofInt (-10)) else if al N = false then (Int32.ofInt (-6))
      else if nm_d (lf w) 0 (pt_e (lf w) 0 w.length) then zw_go T al follow F (w.drop (pt_e (lf w) 0 w.length + 1)) (if pt_e (lf w) 0 w.length = 2 then zn_pa N else o) n
      else match zn_f N (nm_v (lf w) 0 (pt_e (lf w) 0 w.length)) with
        | none => (Int32.ofInt (-2))
        | some t => (match zt_ob T t with
          | none => (Int32.ofInt (-10))
          | some Y => if zn_at Y 0 = 3 ∧ (follow = true ∨ pt_e (lf w) 0 w.length < w.length) then
              (if n = 6 then (Int32.ofInt (-15)) else zw_go T al follow F (zn_ph Y ++ (w.drop (pt_e (lf w) 0 w.length)).drop (if zn_ph Y = [] then 1 else 0)) 0 (n + 1))
            else zw_go T al follow F (w.drop (pt_e (lf w) 0 w.length + 1)) t n)
def zw_walk (A : zA) (T : zT) (u : Nat) (w : zBy) (follow : Bool) : Int32 := zw_go T (fun N => zn_al A N u (Int32.ofNat 1)) follow 8000 w 0 0
/-- goes to the folder of the last step of a path -/
def zw_to (A : zA) (T : zT) (u : Nat) (w : zBy) : Int32 :=
  if zw_walk A T u (w.take (pt_l (lf w) 0 w.length - 1)) true < (Int32.ofNat 0) then zw_walk A T u (w.take (pt_l (lf w) 0 w.length - 1)) true
  else match zt_ob T (zw_walk A T u (w.take (pt_l (lf w) 0 w.length - 1)) true).toNatClampNeg with
    | none => (Int32.ofInt (-10))
    | some N => if zn_at N 0 = 2 then zw_walk A T u (w.take (pt_l (lf w) 0 w.length - 1)) true else (Int32.ofInt (-10))
/-- the last step of a path, as a name: 0 if it is none -/
def zw_ln (w : zBy) : Int64 := nm_v (lf w) (pt_l (lf w) 0 w.length) (w.length - pt_l (lf w) 0 w.length)
def zn_ls (l : List Nat) : Nat → Nat := fun f => l.getD f 0
def zn_tm (N : zN) (t : Nat) : zN := zn_at_ N (fu (zn_at N) 6 t)
def zt_put (T : zT) (o : Nat) (N : zN) : zT := zt_ob_ T (fu (zt_ob T) o (some N))
def zt_new (kind clock : Nat) : zT := (1, fun o => if o = 0 then some (zn_ls [if kind = 0 then 2 else 4, 511, 0, 0, 1, 32 * kind, clock, 0], [], [], 0, [], fun _ => none) else none)
def zt_free (T : zT) : Option Nat := ffi (fun o => (zt_ob T o).isNone) 16 0
def zn_ins (e : Int64 × Nat) : List (Int64 × Nat) → List (Int64 × Nat)
  | [] => [e]
  | x :: r => if e.1 < x.1 then e :: x :: r else x :: zn_ins e r
/-- an entry more, an entry less -/
def zn_add (N : zN) (n : Int64) (o t : Nat) : zN := zn_en_ (zn_at_ N (fu (fu (zn_at N) 5 (zn_at N 5 + 1)) 6 t)) (zn_ins (n, o) (zn_en N))
def zn_drop (N : zN) (n : Int64) (t : Nat) : zN := zn_en_ (zn_at_ N (fu (fu (zn_at N) 5 (zn_at N 5 - 1)) 6 t)) ((zn_en N).filter (fun x => !(decide (x.1 = n))))
def zt_n (T : zT) (o : Nat) : zN := (zt_ob T o).getD (fun _ => 0, [], [], 0, [], fun _ => none)
def zt_make (T : zT) (fo ob ki mo ow tm : Nat) (na : Int64) (ph : zBy) : zT :=
  (zt_ma T + 1, fu (fu (zt_ob T) fo (some (zn_add (zt_n T fo) na ob tm))) ob (some (zn_ls [ki, mo, ow, zn_at (zt_n T fo) 3, 1, ph.length, tm, zt_ma T], [], [], fo, ph, fun _ => none)))
def zn_nm (N : zN) (v t : Nat) : zN := zn_at_ N (fu (fu (zn_at N) 4 v) 6 t)
def zt_link (T : zT) (fo ob tm : Nat) (na : Int64) : zT := zt_put (zt_put T fo (zn_add (zt_n T fo) na ob tm)) ob (zn_nm (zt_n T ob) (zn_at (zt_n T ob) 4 + 1) tm)
def zt_rem (T : zT) (fo tm : Nat) (na : Int64) : zT := match zn_f (zt_n T fo) na with
  | none => T
  | some ob => if 1 < zn_at (zt_n T ob) 4 then zt_put (zt_put T fo (zn_drop (zt_n T fo) na tm)) ob (zn_nm (zt_n T ob) (zn_at (zt_n T ob) 4 - 1) tm)
    else zt_ob_ T (fu (fu (zt_ob T) fo (some (zn_drop (zt_n T fo) na tm))) ob none)
def zt_mv1 (T : zT) (fo to ob tm : Nat) (na n2 : Int64) : zT := zt_put (zt_put T fo (zn_drop (zt_n T fo) na tm)) to (zn_add (zt_n (zt_put T fo (zn_drop (zt_n T fo) na tm)) to) n2 ob tm)
def zt_move (T : zT) (fo to tm : Nat) (na n2 : Int64) : zT := match zn_f (zt_n T fo) na with
  | none => T
  | some ob => zt_put (zt_mv1 T fo to ob tm na n2) ob (if zn_at (zt_n T ob) 0 = 2 then zn_pa_ (zn_tm (zt_n (zt_mv1 T fo to ob tm na n2) ob) tm) to else zn_tm (zt_n (zt_mv1 T fo to ob tm na n2) ob) tm)
def zt_mode (T : zT) (ob what v tm : Nat) : zT := zt_put T ob (zn_tm (zn_at_ (zt_n T ob) (fu (zn_at (zt_n T ob)) what v)) tm)
def zt_row (T : zT) (ob kind who mask tm : Nat) : zT := zt_put T ob (zn_tm (zn_rw_ (zt_n T ob) (if kind = 2 then [] else zn_rw (zt_n T ob) ++ [(kind, who, mask)])) tm)
def zt_ptr (T : zT) (ob : Nat) (pt : Nat → Option zB) (size tm : Nat) : zT := zt_put T ob (zn_tm (zn_pt_ (zn_at_ (zt_n T ob) (fu (zn_at (zt_n T ob)) 5 size)) pt) tm)
/-- sets of a state -/
def zu_set (s : zU) (n : Nat) : Option zD := (zu_sets s).find? (fun d => decide (zd_no d = n))
def zu_snap (s : zU) (n : Nat) : Option zK := (zu_snaps s).find? (fun d => decide (zk_no d = n))
def zu_up (s : zU) (n : Nat) (f : zD → zD) : zU := zu_sets_ s ((zu_sets s).map (fun d => if zd_no d = n then f d else d))
def zu_tree (s : zU) (n : Nat) : Option zT := if n % 2 = 0 then (zu_set s (n / 2)).map zd_tr else (zu_snap s (n / 2)).map zk_tr
/-- by an int -/
def zi_n (x : Int32) : Option Nat := if x < (Int32.ofNat 0) then none else some x.toNatClampNeg
def zu_seti (s : zU) (x : Int32) : Option zD := (zi_n x).bind (zu_set s)
def zu_snapi (s : zU) (x : Int32) : Option zK := (zi_n x).bind (zu_snap s)
def zu_treei (s : zU) (x : Int32) : Option zT := (zi_n x).bind (zu_tree s)
/-- a property as it counts -/
def zu_prop (s : zU) (what : Nat) : Nat → zD → Nat
  | 0, _ => 0
  | F + 1, d => match zd_ow d what with
    | some v => v
    | none => if zd_no d = 0 then (if what = 1 then 1 else 0) else (match (zd_pa d).bind (zu_set s) with
      | none => 0
      | some p => zu_prop s what F p)
def zu_pr (s : zU) (d : zD) (what : Nat) : Nat := zu_prop s what 9 d
def zs_liv (S : zS) : zU := ze_liv (zs_E S)
def zs_liv_ (S : zS) (s : zU) : zS := zs_E_ S (ze_liv_ (zs_E S) s)
/-- the tree of a set of the living state becomes another one -/
def zs_tr_ (S : zS) (n : Nat) (f : zT → zT) : zS := zs_liv_ S (zu_up (zs_liv S) n (fun d => zd_tr_ d (f (zd_tr d))))
/-- blocks that are not in use leave the cache -/
def zs_set (S : zS) : zS := zs_C_ S (zc_ls_ (zs_C S) (fun l => (zc_ls (zs_C S) l).filter (fun b => (zu_e (zs_E S)).any (zb_eq b))))
/-- A TURN: the number, or CUT -/
def zs_turn (S : zS) : zS × Int32 :=
  if zp_arm (zs_P S) = some 0 then (zs_fall (zs_P_ S (zp_arm_ (zs_P S) none)), (Int32.ofInt (-12)))
  else (zs_set (zs_R_ (zs_E_ (zs_P_ S (zp_wrote (zs_P S))) (ze_heads_ (ze_liv_ (zs_E S) (zu_no_ (zs_liv S) (zu_no (zs_liv S) + 1))) ((zu_no_ (zs_liv S) (zu_no (zs_liv S) + 1) :: ze_heads (zs_E S)).take 3))) (fun _ => ([], 0))), (Int32.ofNat (zu_no (zs_liv S) + 1)))
/-- a turn, then an answer -/
def zs_turned (S : zS) (v : Int32) : zS × Int32 := if (zs_turn S).2 < (Int32.ofNat 0) then zs_turn S else ((zs_turn S).1, v)
/-- blocks are read into a row of bytes -/
def zs_rds : zS → List (Nat × Option zB) → (Nat → Int32) → zS × Int32 × (Nat → Int32)
  | S, [], w => (S, (Int32.ofNat 0), w)
  | S, (k, none) :: r, w => zs_rds S r (fun j => if 32 * k ≤ j ∧ j < 32 * k + 32 then (Int32.ofNat 0) else w j)
  | S, (k, some b) :: r, w => if (zs_read S b).2.1 = (Int32.ofNat 0) then zs_rds (zs_read S b).1 r (fun j => if 32 * k ≤ j ∧ j < 32 * k + 32 then lf (zs_read S b).2.2 (j - 32 * k) else w j) else ((zs_read S b).1, (zs_read S b).2.1, w)
/-- blocks are planned: pointers, what is in use, new ones, doubles -/
def zl_pls (P : zP) (G : zG) (co n : Nat) (sh : Bool) (w : Nat → Int32) : List Nat → (Nat → Option zB) × List zB × List (zB × zBy) × Nat → Option ((Nat → Option zB) × List zB × List (zB × zBy) × Nat)
  | [], q => some q
  | k :: r, q => match zl_plan P G q.2.1 co n sh (fun i => w (32 * k + i)) with
    | none => none
    | some (b, nb) => zl_pls P G co n sh w r (fu q.1 k b, b.toList ++ q.2.1, q.2.2.1 ++ (match b, nb with | some b, some l => [(b, l)] | _, _ => []), q.2.2.2 + (match b, nb with | some _, none => 1 | _, _ => 0))
/-- places of a block, of pointers; of a tree, by an owner or all -/
def zl_bp (G : zG) (b : zB) : Nat := ((zb_cp b).map (fun c => zg_sp G c.1 (zb_k b))).foldl (fun x y => x + y) 0
def zl_pp (G : zG) (pt : Nat → Option zB) : Nat := ((List.range 8).map (fun k => match pt k with | none => 0 | some b => zl_bp G b)).foldl (fun x y => x + y) 0
def zt_used (G : zG) (T : zT) (u : Option Nat) : Nat := ((List.range 16).map (fun o => match zt_ob T o with
  | none => 0
  | some N => if (zn_at N 0 = 1 ∨ zn_at N 0 = 4) ∧ (u = none ∨ u = some (zn_at N 2)) then zl_pp G (zn_pt N) else 0)).foldl (fun x y => x + y) 0
def zd_over (G : zG) (d : zD) (N : zN) (pt : Nat → Option zB) : Bool := decide (zl_pp G (zn_pt N) < zl_pp G pt) &&
  ((decide (¬ zd_qu d 0 < (Int32.ofNat 0)) && decide (zd_qu d 0 < (Int32.ofNat (zt_used G (zd_tr d) none + zl_pp G pt - zl_pp G (zn_pt N))))) || (decide (¬ zd_qu d (1 + zn_at N 2) < (Int32.ofNat 0)) && decide (zd_qu d (1 + zn_at N 2) < (Int32.ofNat (zt_used G (zd_tr d) (some (zn_at N 2)) + zl_pp G pt - zl_pp G (zn_pt N))))))
/-- pointers of an object become others, new blocks are written ahead of that: a code, doubles -/
def zs_put (S : zS) (d : zD) (ob : Nat) (pt : Nat → Option zB) (nw : List (zB × zBy)) (dn size tm : Nat) (asks : Bool) : zS × Int32 × Nat :=
  if asks && zd_over (zs_G S) d (zt_n (zd_tr d) ob) pt then (S, (Int32.ofInt (-7)), 0)
  else if (zp_new (zs_G S) (zs_P S) nw).2 then (zs_tr_ (zs_P_ S (zp_new (zs_G S) (zs_P S) nw).1) (zd_no d) (fun T => zt_ptr T ob pt size tm), (Int32.ofNat 0), dn)
  else (zs_fall (zs_P_ S (zp_new (zs_G S) (zs_P S) nw).1), (Int32.ofInt (-12)), 0)
/-- a change of bytes: blocks are read, bytes changed, blocks planned, pointers put -/
def zs_bytes (S : zS) (d : zD) (ob : Nat) (rd : List (Nat × Option zB)) (tf : (Nat → Int32) → Nat → Int32) (ks : List Nat) (pt : Nat → Option zB) (size tm : Nat) (asks : Bool) : zS × Int32 × Nat :=
  if (zs_rds S rd (fun _ => (Int32.ofNat 0))).2.1 = (Int32.ofNat 0) then (match zl_pls (zs_P (zs_rds S rd (fun _ => (Int32.ofNat 0))).1) (zs_G S) (zu_pr (zs_liv S) d 0) (zu_pr (zs_liv S) d 1) (decide (zu_pr (zs_liv S) d 2 = 1)) (tf (zs_rds S rd (fun _ => (Int32.ofNat 0))).2.2) ks (pt, zu_e (zs_E S), [], 0) with
    | none => ((zs_rds S rd (fun _ => (Int32.ofNat 0))).1, (Int32.ofInt (-7)), 0)
    | some q => zs_put (zs_rds S rd (fun _ => (Int32.ofNat 0))).1 d ob q.1 q.2.2.1 q.2.2.2 size tm asks)
  else ((zs_rds S rd (fun _ => (Int32.ofNat 0))).1, (zs_rds S rd (fun _ => (Int32.ofNat 0))).2.1, 0)
def zx_ks (a b : Nat) : List Nat := (List.range (b - a)).map (fun i => a + i)
def zx_wr (S : zS) (d : zD) (ob at' : Nat) (l : zBy) (tm : Nat) (asks : Bool) : zS × Int32 × Nat :=
  zs_bytes S d ob ((zx_ks (at' / 32) ((at' + l.length - 1) / 32 + 1)).map (fun k => (k, if at' ≤ 32 * k ∧ 32 * (k + 1) ≤ at' + l.length then none else zn_pt (zt_n (zd_tr d) ob) k)))
    (fun w j => if at' ≤ j ∧ j < at' + l.length then lf l (j - at') else w j) (zx_ks (at' / 32) ((at' + l.length - 1) / 32 + 1)) (zn_pt (zt_n (zd_tr d) ob)) (max (zn_at (zt_n (zd_tr d) ob) 5) (at' + l.length)) tm asks
def zx_cp (S : zS) (d : zD) (ob n : Nat) : Bool := decide (n < zn_at (zt_n (zd_tr d) ob) 5) && decide (¬ n % 32 = 0) && (zn_pt (zt_n (zd_tr d) ob) (n / 32)).isSome
def zx_cut (S : zS) (d : zD) (ob n tm : Nat) (asks : Bool) : zS × Int32 × Nat :=
  zs_bytes S d ob (if zx_cp S d ob n then [(n / 32, zn_pt (zt_n (zd_tr d) ob) (n / 32))] else []) (fun w j => if n ≤ j then (Int32.ofNat 0) else w j) (if zx_cp S d ob n then [n / 32] else [])
    (fun k => if (n + 31) / 32 ≤ k then none else zn_pt (zt_n (zd_tr d) ob) k) n tm asks
/-- blocks of which a hole takes a part alone -/
def zx_hk (N : zN) (at' to : Nat) : List Nat := (zx_ks (at' / 32) ((to + 31) / 32)).filter (fun k => !(decide (at' ≤ 32 * k) && decide (min (32 * (k + 1)) (zn_at N 5) ≤ to)) && (zn_pt N k).isSome)
def zx_hole (S : zS) (d : zD) (ob at' to tm : Nat) (asks : Bool) : zS × Int32 × Nat :=
  zs_bytes S d ob ((zx_hk (zt_n (zd_tr d) ob) at' to).map (fun k => (k, zn_pt (zt_n (zd_tr d) ob) k))) (fun w j => if at' ≤ j ∧ j < to then (Int32.ofNat 0) else w j) (zx_hk (zt_n (zd_tr d) ob) at' to)
    (fun k => if at' / 32 ≤ k ∧ 32 * k < to ∧ at' ≤ 32 * k ∧ min (32 * (k + 1)) (zn_at (zt_n (zd_tr d) ob) 5) ≤ to then none else zn_pt (zt_n (zd_tr d) ob) k) (zn_at (zt_n (zd_tr d) ob) 5) tm asks
def zx_may (f g : zN) (at' to n : Nat) : Bool := decide (32 * (at' + n) ≤ (zn_at f 5 + 31) / 32 * 32) && (!(decide (¬ zn_at f 5 % 32 = 0) && decide (zn_at f 5 < 32 * (at' + n))) || decide (zn_at g 5 ≤ 32 * (to + n)))
def zx_rng (S : zS) (d : zD) (fr ob at' to n tm : Nat) (asks : Bool) : zS × Int32 × Nat :=
  zs_bytes S d ob [] (fun w => w) [] (fun k => if to ≤ k ∧ k < to + n then zn_pt (zt_n (zd_tr d) fr) (at' + (k - to)) else zn_pt (zt_n (zd_tr d) ob) k)
    (max (zn_at (zt_n (zd_tr d) ob) 5) (32 * to + min (zn_at (zt_n (zd_tr d) fr) 5 - 32 * at') (32 * n))) tm asks
def zx_vol (S : zS) (d : zD) (k : Nat) (hole : Bool) (l : zBy) (tm : Nat) (asks : Bool) : zS × Int32 × Nat :=
  zs_bytes S d 0 [] (fun _ j => if hole then (Int32.ofNat 0) else lf l (j - 32 * k)) [k] (zn_pt (zt_n (zd_tr d) 0)) (zn_at (zt_n (zd_tr d) 0) 5) tm asks
/-- a change is done -/
def zx_do (S : zS) (d : zD) (c : zH) (asks : Bool) : zS × Int32 × Nat :=
  if zh_f c 0 = 1 then (zs_tr_ S (zd_no d) (fun T => zt_make T (zh_f c 1) (zh_f c 2) (zh_f c 3) (zh_f c 4) (zh_f c 7) (zh_f c 6) (zh_n1 c) (zh_by c)), (Int32.ofNat 0), 0)
  else if zh_f c 0 = 2 then (zs_tr_ S (zd_no d) (fun T => zt_link T (zh_f c 1) (zh_f c 2) (zh_f c 6) (zh_n1 c)), (Int32.ofNat 0), 0)
  else if zh_f c 0 = 3 then (zs_tr_ S (zd_no d) (fun T => zt_rem T (zh_f c 1) (zh_f c 6) (zh_n1 c)), (Int32.ofNat 0), 0)
  else if zh_f c 0 = 4 then (zs_tr_ S (zd_no d) (fun T => zt_move T (zh_f c 1) (zh_f c 3) (zh_f c 6) (zh_n1 c) (zh_n2 c)), (Int32.ofNat 0), 0)
  else if zh_f c 0 = 5 then (zs_tr_ S (zd_no d) (fun T => zt_mode T (zh_f c 1) (zh_f c 3) (zh_f c 4) (zh_f c 6)), (Int32.ofNat 0), 0)
  else if zh_f c 0 = 6 then (zs_tr_ S (zd_no d) (fun T => zt_row T (zh_f c 1) (zh_f c 3) (zh_f c 4) (zh_f c 5) (zh_f c 6)), (Int32.ofNat 0), 0)
  else if zh_f c 0 = 7 then zx_wr S d (zh_f c 1) (zh_f c 2) (zh_by c) (zh_f c 6) asks
  else if zh_f c 0 = 8 then (if zh_f c 2 = zn_at (zt_n (zd_tr d) (zh_f c 1)) 5 then (S, (Int32.ofInt (-1)), 0) else zx_cut S d (zh_f c 1) (zh_f c 2) (zh_f c 6) asks)
  else if zh_f c 0 = 9 then (if min (zh_f c 2 + zh_f c 3) (zn_at (zt_n (zd_tr d) (zh_f c 1)) 5) ≤ zh_f c 2 then (S, (Int32.ofInt (-1)), 0) else zx_hole S d (zh_f c 1) (zh_f c 2) (min (zh_f c 2 + zh_f c 3) (zn_at (zt_n (zd_tr d) (zh_f c 1)) 5)) (zh_f c 6) asks)
  else if zh_f c 0 = 10 then (if zx_may (zt_n (zd_tr d) (zh_f c 1)) (zt_n (zd_tr d) (zh_f c 2)) (zh_f c 3) (zh_f c 4) (zh_f c 5) then zx_rng S d (zh_f c 1) (zh_f c 2) (zh_f c 3) (zh_f c 4) (zh_f c 5) (zh_f c 6) asks else (S, (Int32.ofInt (-1)), 0))
  else zx_vol S d (zh_f c 1) (decide (zh_f c 3 = 1)) (zh_by c) (zh_f c 6) asks
/-- numbers of sets go up to 100; how many changes are promised -/
def zs_np (S : zS) : Nat := ((List.range 100).map (fun n => (zs_R S n).2)).foldl (fun x y => x + y) 0
def zs_nr (S : zS) : Nat := ((List.range 100).map (fun n => (zs_R S n).1.length)).foldl (fun x y => x + y) 0
/-- a row is promised; if that is too much, a turn -/
def zs_prom (S : zS) (n : Nat) : zS × Int32 := if zs_np S - (zs_R S n).2 + (zs_R S n).1.length ≤ 16 then (zs_R_ S (fu (zs_R S) n ((zs_R S n).1, (zs_R S n).1.length)), (Int32.ofNat 0))
  else if (zs_turn S).2 < (Int32.ofNat 0) then zs_turn S else ((zs_turn S).1, (Int32.ofNat 0))
/-- a change is done and noted: a code, doubles -/
def zs_perf (S : zS) (d : zD) (c : zH) : zS × Int32 × Nat :=
  if (zx_do S d c true).2.1 < (Int32.ofNat 0) then zx_do S d c true
  else if zu_pr (zs_liv S) d 4 = 1 then
    ((zs_prom (zs_R_ (zx_do S d c true).1 (fu (zs_R S) (zd_no d) ((zs_R S (zd_no d)).1 ++ [c], (zs_R S (zd_no d)).2))) (zd_no d)).1, (zs_prom (zs_R_ (zx_do S d c true).1 (fu (zs_R S) (zd_no d) ((zs_R S (zd_no d)).1 ++ [c], (zs_R S (zd_no d)).2))) (zd_no d)).2, (zx_do S d c true).2.2)
  else (zs_R_ (zx_do S d c true).1 (fu (zs_R S) (zd_no d) ((zs_R S (zd_no d)).1 ++ [c], (zs_R S (zd_no d)).2)), (Int32.ofNat 0), (zx_do S d c true).2.2)
/-- watches are told -/
def zw_row (W : zW) (v : Int32) : zW := if (zw_rows W).length = 6 then zw_losing_ W true else zw_rows_ W (zw_rows W ++ [v])
def zs_tell (S : zS) (n fo ob what : Nat) : zS := zs_F_ S (zf_wt_ (zs_F S) (fun w => (zf_wt (zs_F S) w).map (fun W => if zw_set W = n ∧ zw_folder W = fo then zw_row W (Int32.ofNat (16 * ob + what)) else W)))
def zs_tella (S : zS) (n ob what : Nat) : zS := zs_F_ S (zf_wt_ (zs_F S) (fun w => (zf_wt (zs_F S) w).map (fun W => if zw_set W = n ∧ (match (zu_set (zs_liv S) n) with | none => false | some d => (zn_en (zt_n (zd_tr d) (zw_folder W))).any (fun x => decide (x.2 = ob))) = true then zw_row W (Int32.ofNat (16 * ob + what)) else W)))
/-- watches of a set, or of one of its folders, end -/
def zs_wend (S : zS) (n : Nat) (fo : Option Nat) : zS := zs_F_ S (zf_wt_ (zs_F S) (fun w => (zf_wt (zs_F S) w).filter (fun W => !(decide (zw_set W = n) && (decide (fo = none) || decide (fo = some (zw_folder W)))))))
/-- doubles count when a call ends well -/
def zs_good (S : zS) (v : Int32) (dn : Nat) : zS × Int32 := (zs_set (zs_M_ S (zm_dbl_ (zs_M S) (zm_dbl (zs_M S) + (Int32.ofNat dn)))), v)
