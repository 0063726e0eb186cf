/-! THE HOUSE AS IT IS, 5: sets, snapshots, streams -/
def zd_new (no pa ki : Nat) (og : Option Nat) (na : Int64) (T : zT) : zD := (no, some pa, ki, og, na, fun _ => none, fun _ => Int32.ofInt (-1), [], T)
def zu_child (s : zU) (p : Nat) (n : Int64) : Option zD := (zu_sets s).find? (fun d => decide (0 < zd_no d) && decide (zd_pa d = some p) && decide (zd_na d = n))
def zs_nm (w : zBy) : Int64 := nm_v (lf w) 0 w.length
def zu_add (s : zU) (d : zD) : zU := zu_ns_ (zu_sets_ s (zu_sets s ++ [d])) (zu_ns s + 1)
/-- a new set below a parent, with a tree (or a new one) and an origin -/
def zs_add (S : zS) (parent : Int32) (na : Int64) (ki : Nat) (T : zT) (og : Option Nat) : zS × Int32 := match zu_seti (zs_liv S) parent with
  | none => (S, (Int32.ofInt (-2)))
  | some p => if 0 < zd_ki p then (S, (Int32.ofInt (-10))) else if (zu_child (zs_liv S) (zd_no p) na).isSome then (S, (Int32.ofInt (-4))) else if (zu_sets (zs_liv S)).length = 8 then (S, (Int32.ofInt (-3)))
    else zs_turned (zs_liv_ S (zu_add (zs_liv S) (zd_new (zu_ns (zs_liv S)) (zd_no p) ki og na T))) (Int32.ofNat (zu_ns (zs_liv S)))
def zq_create (S0 : zS) (parent kind : Int32) : zS × Int32 := if zs_up S0 = false then (zs_tp S0 [], (Int32.ofInt (-9))) else if kind < (Int32.ofNat 0) ∨ (Int32.ofNat 8) < kind then (zs_tp S0 [], (Int32.ofInt (-1)))
  else if zs_nm (zs_w S0) = Int64.ofNat 0 then (zs_tp S0 [], (Int32.ofInt (-11))) else zs_add (zs_tp S0 []) parent (zs_nm (zs_w S0)) kind.toNatClampNeg (zt_new kind.toNatClampNeg (zs_ck S0)) none
/-- the names of a path of sets -/
def zy_steps : Nat → zBy → Option (List Int64)
  | 0, _ => none
  | F + 1, w => if nm_v (lf w) 0 (pt_e (lf w) 0 w.length) = Int64.ofNat 0 then none else if pt_e (lf w) 0 w.length = w.length then some [nm_v (lf w) 0 (pt_e (lf w) 0 w.length)]
    else (zy_steps F (w.drop (pt_e (lf w) 0 w.length + 1))).map (fun l => nm_v (lf w) 0 (pt_e (lf w) 0 w.length) :: l)
def zu_way (s : zU) : List Int64 → Nat → Option Nat
  | [], n => some n
  | x :: r, n => match zu_child s n x with
    | none => none
    | some d => zu_way s r (zd_no d)
def zq_find (S0 : zS) : zS × Int32 := (zs_tp S0 [], if zs_up S0 = false then (Int32.ofInt (-9)) else if zs_w S0 = [] then (Int32.ofNat 0) else match zy_steps 400 (zs_w S0) with
  | none => (Int32.ofInt (-11))
  | some l => (match zu_way (zs_liv S0) l 0 with
    | none => (Int32.ofInt (-2))
    | some n => (Int32.ofNat n)))
def zu_und (s : zU) (a : Nat) : Nat → Nat → Bool
  | 0, _ => false
  | F + 1, x => decide (x = a) || (!(decide (x = 0)) && (match (zu_set s x).bind zd_pa with
    | none => false
    | some p => zu_und s a F p))
def zq_rename (S0 : zS) (s parent : Int32) : zS × Int32 := if zs_up S0 = false then (zs_tp S0 [], (Int32.ofInt (-9))) else if s = (Int32.ofNat 0) then (zs_tp S0 [], (Int32.ofInt (-1)))
  else if zs_nm (zs_w S0) = Int64.ofNat 0 then (zs_tp S0 [], (Int32.ofInt (-11))) else match zu_seti (zs_liv S0) s, zu_seti (zs_liv S0) parent with
  | some d, some p => if 0 < zd_ki p then (zs_tp S0 [], (Int32.ofInt (-10))) else if zu_und (zs_liv S0) (zd_no d) 9 (zd_no p) then (zs_tp S0 [], (Int32.ofInt (-5)))
    else if (match zu_child (zs_liv S0) (zd_no p) (zs_nm (zs_w S0)) with | none => false | some c => !(decide (zd_no c = zd_no d))) then (zs_tp S0 [], (Int32.ofInt (-4)))
    else zs_turned (zs_liv_ (zs_tp S0 []) (zu_up (zs_liv S0) (zd_no d) (fun d => zd_na_ (zd_pa_ d (some (zd_no p))) (zs_nm (zs_w S0))))) (Int32.ofNat 0)
  | _, _ => (zs_tp S0 [], (Int32.ofInt (-2)))
/-- whether a tree has an open file -/
def zs_oi (S : zS) (tree : Nat) : Bool := (List.range 8).any (fun f => match zs_fo S f with | none => false | some o => decide (zo_tree o = tree))
def zq_destroy (S : zS) (s : Int32) : zS × Int32 := if zs_up S = false then (S, (Int32.ofInt (-9))) else if s = (Int32.ofNat 0) then (S, (Int32.ofInt (-1))) else match zu_seti (zs_liv S) s with
  | none => (S, (Int32.ofInt (-2)))
  | some d => if ¬ zd_sn d = [] ∨ zs_oi S (2 * zd_no d) = true ∨ (zu_sets (zs_liv S)).any (fun e => decide (0 < zd_no e) && decide (zd_pa e = some (zd_no d))) = true then (S, (Int32.ofInt (-5)))
    else zs_turned (zs_F_ (zs_wend (zs_liv_ S (zu_sets_ (zs_liv S) ((zu_sets (zs_liv S)).filter (fun e => !(decide (zd_no e = zd_no d)))))) (zd_no d) none) (zf_ho_ (zs_F (zs_wend S (zd_no d) none)) (fu (zf_ho (zs_F S)) (zd_no d) none))) (Int32.ofNat 0)
def zq_set (S : zS) (s what v : Int32) : zS × Int32 := if zs_up S = false then (S, (Int32.ofInt (-9)))
  else if (what < (Int32.ofNat 0) ∨ (Int32.ofNat 4) < what) ∨ v < Int32.ofInt (-1) ∨ (if what = (Int32.ofNat 0) ∨ what = (Int32.ofNat 1) ∨ what = (Int32.ofNat 4) then (Int32.ofNat 2) else (Int32.ofNat 1)) < v ∨ (what = (Int32.ofNat 1) ∧ v = (Int32.ofNat 0)) then (S, (Int32.ofInt (-1))) else match zu_seti (zs_liv S) s with
  | none => (S, (Int32.ofInt (-2)))
  | some d => zs_turned (zs_liv_ S (zu_up (zs_liv S) (zd_no d) (fun d => zd_ow_ d (fu (zd_ow d) what.toNatClampNeg (zi_n v))))) (Int32.ofNat 0)
def zq_property (S : zS) (s what : Int32) : zS × Int32 := (S, if zs_up S = false then (Int32.ofInt (-9)) else if what < (Int32.ofNat 0) ∨ (Int32.ofNat 4) < what then (Int32.ofInt (-1)) else match zu_seti (zs_liv S) s with
  | none => (Int32.ofInt (-2))
  | some d => (Int32.ofNat (zu_pr (zs_liv S) d what.toNatClampNeg)))
def zq_quota (S : zS) (s u n : Int32) : zS × Int32 := if zs_up S = false then (S, (Int32.ofInt (-9))) else if (u < Int32.ofInt (-1) ∨ (Int32.ofNat 7) < u) ∨ (n < Int32.ofInt (-1) ∨ (Int32.ofNat 100000) < n) then (S, (Int32.ofInt (-1))) else match zu_seti (zs_liv S) s with
  | none => (S, (Int32.ofInt (-2)))
  | some d => zs_turned (zs_liv_ S (zu_up (zs_liv S) (zd_no d) (fun d => zd_qu_ d (fu (zd_qu d) (u + (Int32.ofNat 1)).toNatClampNeg n)))) (Int32.ofNat 0)
def zq_used (S : zS) (tree u : Int32) : zS × Int32 := (S, if zs_up S = false then (Int32.ofInt (-9)) else if u < Int32.ofInt (-1) ∨ (Int32.ofNat 7) < u then (Int32.ofInt (-1)) else match zu_treei (zs_liv S) tree with
  | none => (Int32.ofInt (-2))
  | some T => (Int32.ofNat (zt_used (zs_G S) T (zi_n u))))
/-- blocks without those that came before -/
def zx_dd : List zB → List zB → List zB
  | [], _ => []
  | b :: r, l => if l.any (zb_eq b) then zx_dd r l else b :: zx_dd r (b :: l)
def zt_leads (T : zT) (b : zB) : Bool := (zu_t T).any (zb_eq b)
def zu_else (s : zU) (n : Nat) (b : zB) : Bool := (zu_sets s).any (fun d => !(decide (2 * zd_no d = n)) && zt_leads (zd_tr d) b) || (zu_snaps s).any (fun k => !(decide (2 * zk_no k + 1 = n)) && zt_leads (zk_tr k) b)
def zq_unique (S : zS) (tree : Int32) : zS × Int32 := (S, if zs_up S = false then (Int32.ofInt (-9)) else match zu_treei (zs_liv S) tree with
  | none => (Int32.ofInt (-2))
  | some T => (Int32.ofNat (((zx_dd (zu_t T) []).map (fun b => if zu_else (zs_liv S) tree.toNatClampNeg b then 0 else zl_bp (zs_G S) b)).foldl (fun x y => x + y) 0)))
/-- a snapshot of a set with a name -/
def zu_named (s : zU) (d : zD) (n : Int64) : Bool := (zd_sn d).any (fun k => match zu_snap s k with | none => false | some x => decide (zk_na x = n))
def zu_sadd (s : zU) (d : zD) (n : Int64) (stamp : Nat) : zU := zu_nk_ (zu_up (zu_snaps_ s (zu_snaps s ++ [(zu_nk s, zd_no d, 0, stamp, n, zd_tr d)])) (zd_no d) (fun d => zd_sn_ d (zd_sn d ++ [zu_nk s]))) (zu_nk s + 1)
def zq_snapshot (S0 : zS) (s : Int32) : zS × Int32 := if zs_up S0 = false then (zs_tp S0 [], (Int32.ofInt (-9))) else if zs_nm (zs_w S0) = Int64.ofNat 0 then (zs_tp S0 [], (Int32.ofInt (-11))) else match zu_seti (zs_liv S0) s with
  | none => (zs_tp S0 [], (Int32.ofInt (-2)))
  | some d => if zu_named (zs_liv S0) d (zs_nm (zs_w S0)) then (zs_tp S0 [], (Int32.ofInt (-4))) else if (zu_snaps (zs_liv S0)).length = 12 then (zs_tp S0 [], (Int32.ofInt (-3)))
    else zs_turned (zs_liv_ (zs_M_ (zs_tp S0 []) (zm_stamps_ (zs_M S0) (zm_stamps (zs_M S0) + 1))) (zu_sadd (zs_liv S0) d (zs_nm (zs_w S0)) (zm_stamps (zs_M S0) + 1))) (Int32.ofNat (zu_nk (zs_liv S0)))
def zu_clones (s : zU) (k : Nat) : Nat := ((zu_sets s).filter (fun d => decide (zd_og d = some k))).length
def zq_drop (S : zS) (k : Int32) : zS × Int32 := if zs_up S = false then (S, (Int32.ofInt (-9))) else match zu_snapi (zs_liv S) k with
  | none => (S, (Int32.ofInt (-2)))
  | some x => if 0 < zk_ho x ∨ 0 < zu_clones (zs_liv S) (zk_no x) ∨ zs_oi S (2 * zk_no x + 1) = true then (S, (Int32.ofInt (-5)))
    else zs_turned (zs_liv_ S (zu_up (zu_snaps_ (zs_liv S) ((zu_snaps (zs_liv S)).filter (fun y => !(decide (zk_no y = zk_no x))))) (zk_se x) (fun d => zd_sn_ d ((zd_sn d).filter (fun n => !(decide (n = zk_no x))))))) (Int32.ofNat 0)
def zu_kup (s : zU) (n : Nat) (f : zK → zK) : zU := zu_snaps_ s ((zu_snaps s).map (fun d => if zk_no d = n then f d else d))
def zq_hold (S : zS) (k : Int32) (on : Bool) : zS × Int32 := if zs_up S = false then (S, (Int32.ofInt (-9))) else match zu_snapi (zs_liv S) k with
  | none => (S, (Int32.ofInt (-2)))
  | some x => if on = false ∧ zk_ho x = 0 then (S, (Int32.ofInt (-1))) else if on = true ∧ zk_ho x = 100 then (S, (Int32.ofInt (-3)))
    else zs_turned (zs_liv_ S (zu_kup (zs_liv S) (zk_no x) (fun x => zk_ho_ x (if on then zk_ho x + 1 else zk_ho x - 1)))) (Int32.ofNat (if on then zk_ho x + 1 else zk_ho x - 1))
def zq_rollback (S : zS) (s : Int32) : zS × Int32 := if zs_up S = false then (S, (Int32.ofInt (-9))) else match zu_seti (zs_liv S) s with
  | none => (S, (Int32.ofInt (-2)))
  | some d => (match (zd_sn d).getLast? with
    | none => (S, (Int32.ofInt (-2)))
    | some k => if zs_oi S (2 * zd_no d) then (S, (Int32.ofInt (-5))) else (match zu_snap (zs_liv S) k with
      | none => (S, (Int32.ofInt (-2)))
      | some x => zs_turned (zs_wend (zs_tr_ S (zd_no d) (fun _ => zk_tr x)) (zd_no d) none) (Int32.ofNat k)))
def zq_clone (S0 : zS) (k parent : Int32) : zS × Int32 := if zs_up S0 = false then (zs_tp S0 [], (Int32.ofInt (-9))) else if zs_nm (zs_w S0) = Int64.ofNat 0 then (zs_tp S0 [], (Int32.ofInt (-11))) else match zu_snapi (zs_liv S0) k with
  | none => (zs_tp S0 [], (Int32.ofInt (-2)))
  | some x => (match zu_set (zs_liv S0) (zk_se x) with
    | none => (zs_tp S0 [], (Int32.ofInt (-2)))
    | some d => zs_add (zs_tp S0 []) parent (zs_nm (zs_w S0)) (zd_ki d) (zk_tr x) (some (zk_no x)))
/-- snapshots up to the origin go over to a set -/
def zu_prom (s : zU) (d o : zD) (k n : Nat) : zU := zu_sets_ (zu_snaps_ s ((zu_snaps s).map (fun x => if zk_no x ∈ (zd_sn o).take n then zk_se_ x (zd_no d) else x)))
  ((zu_sets s).map (fun e => if zd_no e = zd_no d then zd_og_ (zd_sn_ e ((zd_sn o).take n ++ zd_sn d)) (zd_og o) else if zd_no e = zd_no o then zd_og_ (zd_sn_ e ((zd_sn o).drop n)) (some k) else e))
def zq_promote (S : zS) (s : Int32) : zS × Int32 := if zs_up S = false then (S, (Int32.ofInt (-9))) else match zu_seti (zs_liv S) s with
  | none => (S, (Int32.ofInt (-2)))
  | some d => (match zd_og d with
    | none => (S, (Int32.ofInt (-10)))
    | some k => (match (zu_snap (zs_liv S) k).bind (fun x => zu_set (zs_liv S) (zk_se x)) with
      | none => (S, (Int32.ofInt (-10)))
      | some o => if ((zd_sn o).take ((zd_sn o).idxOf k + 1)).any (fun n => match zu_snap (zs_liv S) n with | none => false | some x => zu_named (zs_liv S) d (zk_na x)) then (S, (Int32.ofInt (-4)))
        else zs_turned (zs_liv_ S (zu_prom (zs_liv S) d o k ((zd_sn o).idxOf k + 1))) (Int32.ofNat ((zd_sn o).idxOf k + 1))))
/-- whether two objects are alike but for their blocks -/
def zx_like (N M : zN) : Bool := (List.range 7).all (fun f => decide (zn_at N f = zn_at M f)) && decide (zn_rw N = zn_rw M) && (!(decide (zn_at N 0 = 3)) || decide (zn_ph N = zn_ph M)) && (!(decide (zn_at N 0 = 2)) || (decide (zn_pa N = zn_pa M) && decide (zn_en N = zn_en M)))
def zb_oeq (a b : Option zB) : Bool := match a, b with
  | none, none => true
  | some a, some b => zb_eq a b
  | _, _ => false
def zx_df (N M : Option zN) : Nat := match N, M with
  | none, none => 0
  | none, some _ => 1
  | some _, none => 2
  | some N, some M => if ¬ zn_at N 7 = zn_at M 7 then 3 else if zx_like N M && (List.range 8).all (fun k => zb_oeq (zn_pt N k) (zn_pt M k)) then 0 else 4
def zx_dfl (T V : zT) : List (Nat × Nat) := ((List.range 16).map (fun o => (zx_df (zt_ob T o) (zt_ob V o), o))).filter (fun x => decide (0 < x.1))
def zq_differ (S : zS) (a b : Int32) : zS × Int32 := if zs_up S = false then (S, (Int32.ofInt (-9))) else match zu_treei (zs_liv S) a, zu_treei (zs_liv S) b with
  | some T, some V => (zs_ou S ((zx_dfl T V).flatMap (fun x => [(Int32.ofNat (x.1)), (Int32.ofNat (x.2))])), (Int32.ofNat ((zx_dfl T V).length)))
  | _, _ => (S, (Int32.ofInt (-2)))
/-- bytes of numbers and names -/
def zy_1 (v : Nat) : zBy := [byt (Int32.ofNat v)]
def zy_2 (v : Nat) : zBy := [byt (Int32.ofNat (v / 256)), byt (Int32.ofNat v)]
def zy_4 (v : Nat) : zBy := [byt (Int32.ofNat (v / 16777216)), byt (Int32.ofNat (v / 65536)), byt (Int32.ofNat (v / 256)), byt (Int32.ofNat v)]
def zy_nb (v : Int64) : zBy := (((List.range 8).map (fun k => (v >>> Int64.ofNat (56 - 8 * k)) &&& 255)).filter (fun x => !(decide (x = 0)))).map (fun x => byt x.toInt32)
def zy_n (v : Int64) : zBy := zy_1 (zy_nb v).length ++ zy_nb v
def zy_nd (o : Nat) (N : zN) : zBy := zy_1 1 ++ zy_1 o ++ zy_1 (zn_at N 0) ++ zy_2 (zn_at N 1) ++ zy_1 (zn_at N 2) ++ zy_1 (zn_at N 3) ++ zy_1 (zn_at N 4) ++ zy_2 (zn_at N 5) ++ zy_4 (zn_at N 6) ++ zy_2 (zn_at N 7) ++ zy_1 (zn_rw N).length
  ++ (zn_rw N).flatMap (fun r => zy_1 r.1 ++ zy_1 r.2.1 ++ zy_1 r.2.2)
  ++ (if zn_at N 0 = 2 then zy_1 (zn_pa N) ++ (zn_en N).flatMap (fun e => zy_n e.1 ++ zy_1 e.2) else if zn_at N 0 = 3 then zn_ph N else [])
def zy_i (i : zI) : zBy := if zi_tag i = 1 then zy_nd (zi_o i) (zi_nd i) else if zi_tag i = 4 then zy_1 4 ++ zy_1 (zi_o i) else zy_1 (zi_tag i) ++ zy_1 (zi_o i) ++ zy_1 (zi_k i) ++ zi_by i
def zy_hd (V : zV) : zBy := zy_1 83 ++ zy_1 84 ++ zy_1 (zv_ki V) ++ zy_1 (if (zv_fr V).isSome then 1 else 0) ++ zy_4 ((zv_fr V).getD 0) ++ zy_4 (zv_sm V) ++ zy_n (zv_na V)
def zy_bd (V : zV) : zBy := zy_hd V ++ (zv_it V).flatMap zy_i ++ zy_1 9 ++ zy_4 (zv_ma V)
def zy_8 (v : Int64) : zBy := (List.range 8).map (fun k => byt ((v >>> Int64.ofNat (56 - 8 * k)).toInt32))
def zy_enc (V : zV) : zBy := zy_bd V ++ zy_8 (sm (lf (zy_bd V)) (zy_bd V).length)
def zn_0 : zN := (fun _ => 0, [], [], 0, [], fun _ => none)
/-- what a stream says of an object, the blocks not read yet -/
def zy_ob (o : Nat) (x was : Option zN) : List (zI × Option zB) := match x with
  | none => if was.isSome then [((4, o, 0, zn_0, []), none)] else []
  | some N => (match (match was with | none => none | some M => if zn_at M 7 = zn_at N 7 then some M else none) with
    | none => ((1, o, 0, N, []), none) :: (if zn_at N 0 = 1 ∨ zn_at N 0 = 4 then (List.range 8).filterMap (fun k => match zn_pt N k with | none => none | some b => some ((2, o, k, zn_0, []), some b)) else [])
    | some M => (if zx_like N M then [] else [((1, o, 0, N, []), none)]) ++ (if zn_at N 0 = 1 ∨ zn_at N 0 = 4 then (List.range 8).filterMap (fun k => if zb_oeq (zn_pt N k) (zn_pt M k) then none else match zn_pt N k with | none => some ((3, o, k, zn_0, []), none) | some b => some ((2, o, k, zn_0, []), some b)) else []))
def zy_its (T : zT) (from' : Option zT) : List (zI × Option zB) := (List.range 16).flatMap (fun o => zy_ob o (zt_ob T o) (from'.bind (fun t => zt_ob t o)))
/-- blocks of a stream are read -/
def zy_rd : zS → List (zI × Option zB) → List zI → zS × Int32 × List zI
  | S, [], l => (S, (Int32.ofNat 0), l)
  | S, (i, none) :: r, l => zy_rd S r (l ++ [i])
  | S, (i, some b) :: r, l => if (zs_read S b).2.1 = (Int32.ofNat 0) then zy_rd (zs_read S b).1 r (l ++ [zi_by_ i (zs_read S b).2.2]) else ((zs_read S b).1, (zs_read S b).2.1, l)
def zy_len (l : List (zI × Option zB)) : Nat := (l.map (fun i => (zy_i i.1).length + (if i.2.isSome then 32 else 0))).foldl (fun x y => x + y) 0
def zq_sendv (S : zS) (x : Nat) (ki : Nat) (fr : Option zK) (to : zK) : zS × Int32 :=
  if 6000 < (zy_hd (ki, fr.map zk_sm, zk_sm to, zk_na to, [], 0)).length + zy_len (zy_its (zk_tr to) (fr.map zk_tr)) + 13 then (S, (Int32.ofInt (-3)))
  else if (zy_rd S (zy_its (zk_tr to) (fr.map zk_tr)) []).2.1 = (Int32.ofNat 0) then
    (zs_X_ (zy_rd S (zy_its (zk_tr to) (fr.map zk_tr)) []).1 (fu (zs_X S) x (zy_enc (ki, fr.map zk_sm, zk_sm to, zk_na to, (zy_rd S (zy_its (zk_tr to) (fr.map zk_tr)) []).2.2, zt_ma (zk_tr to)), (ki, fr.map zk_sm, zk_sm to, zk_na to, (zy_rd S (zy_its (zk_tr to) (fr.map zk_tr)) []).2.2, zt_ma (zk_tr to)))),
      (Int32.ofNat ((zy_enc (ki, fr.map zk_sm, zk_sm to, zk_na to, (zy_rd S (zy_its (zk_tr to) (fr.map zk_tr)) []).2.2, zt_ma (zk_tr to))).length)))
  else ((zy_rd S (zy_its (zk_tr to) (fr.map zk_tr)) []).1, (zy_rd S (zy_its (zk_tr to) (fr.map zk_tr)) []).2.1)
def zq_send (S : zS) (x fr to : Int32) : zS × Int32 := if zs_up S = false then (S, (Int32.ofInt (-9))) else if x < (Int32.ofNat 0) ∨ (Int32.ofNat 1) < x then (S, (Int32.ofInt (-1)))
  else if ¬ fr = Int32.ofInt (-1) ∧ (zu_snapi (zs_liv S) fr).isNone then (S, (Int32.ofInt (-2))) else match zu_snapi (zs_liv S) to with
  | none => (S, (Int32.ofInt (-2)))
  | some t => (match zu_set (zs_liv S) (zk_se t) with
    | none => (S, (Int32.ofInt (-2)))
    | some d => (match (if fr = Int32.ofInt (-1) then none else zu_snapi (zs_liv S) fr) with
      | none => zq_sendv S x.toNatClampNeg (zd_ki d) none t
      | some e => if zk_se e = zk_se t ∧ (zd_sn d).idxOf (zk_no e) < (zd_sn d).idxOf (zk_no t) then zq_sendv S x.toNatClampNeg (zd_ki d) (some e) t else (S, (Int32.ofInt (-10)))))
def zs_x (S : zS) (x : Nat) : zBy := (zs_X S x).1
def zq_streamed (S : zS) (x i : Int32) : zS × Int32 := (S, if x < (Int32.ofNat 0) ∨ (Int32.ofNat 1) < x then (Int32.ofInt (-1)) else if i < (Int32.ofNat 0) ∨ ¬ i < (Int32.ofNat ((zs_x S x.toNatClampNeg).length)) then (Int32.ofInt (-2)) else lf (zs_x S x.toNatClampNeg) i.toNatClampNeg &&& (Int32.ofNat 255))
def zq_spoil (S : zS) (x i mask : Int32) : zS × Int32 := if (x < (Int32.ofNat 0) ∨ (Int32.ofNat 1) < x) ∨ (mask < (Int32.ofNat 0) ∨ (Int32.ofNat 255) < mask) then (S, (Int32.ofInt (-1))) else if i < (Int32.ofNat 0) ∨ ¬ i < (Int32.ofNat ((zs_x S x.toNatClampNeg).length)) then (S, (Int32.ofInt (-2)))
  else (zs_X_ S (fu (zs_X S) x.toNatClampNeg ((zs_x S x.toNatClampNeg).set i.toNatClampNeg (byt (lf (zs_x S x.toNatClampNeg) i.toNatClampNeg ^^^ byt mask)), (zs_X S x.toNatClampNeg).2)), byt (lf (zs_x S x.toNatClampNeg) i.toNatClampNeg ^^^ byt mask) &&& (Int32.ofNat 255))
/-- what a stream says is put into a tree: the tree, what is in use, new blocks, doubles; none without space -/
def zy_put (P : zP) (G : zG) (co n : Nat) (sh : Bool) : List zI → zT × List zB × List (zB × zBy) × Nat → Option (zT × List zB × List (zB × zBy) × Nat)
  | [], q => some q
  | i :: r, q => if zi_tag i = 1 then zy_put P G co n sh r (zt_put q.1 (zi_o i) (zn_pt_ (zi_nd i) (match zt_ob q.1 (zi_o i) with | none => fun _ => none | some M => if zn_at M 7 = zn_at (zi_nd i) 7 then zn_pt M else fun _ => none)), q.2)
    else if zi_tag i = 4 then zy_put P G co n sh r (zt_ob_ q.1 (fu (zt_ob q.1) (zi_o i) none), q.2)
    else if zi_tag i = 3 then zy_put P G co n sh r (zt_put q.1 (zi_o i) (zn_pt_ (zt_n q.1 (zi_o i)) (fu (zn_pt (zt_n q.1 (zi_o i))) (zi_k i) none)), q.2)
    else match zl_plan P G q.2.1 co n sh (lf (zi_by i)) with
    | none => none
    | some (b, nb) => zy_put P G co n sh r (zt_put q.1 (zi_o i) (zn_pt_ (zt_n q.1 (zi_o i)) (fu (zn_pt (zt_n q.1 (zi_o i))) (zi_k i) b)), b.toList ++ q.2.1, q.2.2.1 ++ (match b, nb with | some b, some l => [(b, l)] | _, _ => []), q.2.2.2 + (match b, nb with | some _, none => 1 | _, _ => 0))
def zq_rcv (S : zS) (d : zD) (V : zV) (T0 : zT) : zS × Int32 := match zy_put (zs_P S) (zs_G S) (zu_pr (zs_liv S) d 0) (zu_pr (zs_liv S) d 1) (decide (zu_pr (zs_liv S) d 2 = 1)) (zv_it V) (T0, zs_us S, [], 0) with
  | none => (S, (Int32.ofInt (-7)))
  | some q => if (zp_new (zs_G S) (zs_P S) q.2.2.1).2 = false then (zs_fall (zs_P_ S (zp_new (zs_G S) (zs_P S) q.2.2.1).1), (Int32.ofInt (-12)))
    else if (zs_turn (zs_liv_ (zs_wend (zs_P_ S (zp_new (zs_G S) (zs_P S) q.2.2.1).1) (zd_no d) none) (zu_sadd (zu_up (zs_liv S) (zd_no d) (fun d => zd_tr_ d (zt_ma_ q.1 (zv_ma V)))) (zd_tr_ d (zt_ma_ q.1 (zv_ma V))) (zv_na V) (zv_sm V)))).2 < (Int32.ofNat 0)
      then zs_turn (zs_liv_ (zs_wend (zs_P_ S (zp_new (zs_G S) (zs_P S) q.2.2.1).1) (zd_no d) none) (zu_sadd (zu_up (zs_liv S) (zd_no d) (fun d => zd_tr_ d (zt_ma_ q.1 (zv_ma V)))) (zd_tr_ d (zt_ma_ q.1 (zv_ma V))) (zv_na V) (zv_sm V)))
    else zs_good (zs_turn (zs_liv_ (zs_wend (zs_P_ S (zp_new (zs_G S) (zs_P S) q.2.2.1).1) (zd_no d) none) (zu_sadd (zu_up (zs_liv S) (zd_no d) (fun d => zd_tr_ d (zt_ma_ q.1 (zv_ma V)))) (zd_tr_ d (zt_ma_ q.1 (zv_ma V))) (zv_na V) (zv_sm V)))).1 (Int32.ofNat (zu_nk (zs_liv S))) q.2.2.2
def zq_receive (S : zS) (x s : Int32) : zS × Int32 := if zs_up S = false then (S, (Int32.ofInt (-9))) else if x < (Int32.ofNat 0) ∨ (Int32.ofNat 1) < x then (S, (Int32.ofInt (-1))) else if zs_x S x.toNatClampNeg = [] then (S, (Int32.ofInt (-2)))
  else if ¬ zs_x S x.toNatClampNeg = zy_enc (zs_X S x.toNatClampNeg).2 then (S, (Int32.ofInt (-11))) else match zu_seti (zs_liv S) s with
  | none => (S, (Int32.ofInt (-2)))
  | some d => if ¬ zv_ki (zs_X S x.toNatClampNeg).2 = zd_ki d then (S, (Int32.ofInt (-10))) else if zs_oi S (2 * zd_no d) then (S, (Int32.ofInt (-5)))
    else (match zv_fr (zs_X S x.toNatClampNeg).2, (zd_sn d).getLast?.bind (zu_snap (zs_liv S)) with
    | none, some _ => (S, (Int32.ofInt (-5)))
    | some _, none => (S, (Int32.ofInt (-10)))
    | none, none => if (zu_snaps (zs_liv S)).length = 12 then (S, (Int32.ofInt (-3))) else zq_rcv S d (zs_X S x.toNatClampNeg).2 (0, fun _ => none)
    | some e, some k => if ¬ zk_sm k = e then (S, (Int32.ofInt (-10))) else if zu_named (zs_liv S) d (zv_na (zs_X S x.toNatClampNeg).2) then (S, (Int32.ofInt (-4))) else if (zu_snaps (zs_liv S)).length = 12 then (S, (Int32.ofInt (-3))) else zq_rcv S d (zs_X S x.toNatClampNeg).2 (zk_tr k))
