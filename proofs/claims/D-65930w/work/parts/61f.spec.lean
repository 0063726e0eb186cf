/-! THE HOUSE AS IT IS, 6: trees, files, what is served, what is told -/
def zs_fol (S : zS) (tree : Int32) (k : zT → zS × Int32) : zS × Int32 := match zu_treei (zs_liv S) tree with
  | none => (S, (Int32.ofInt (-2)))
  | some T => if zn_at (zt_n T 0) 0 = 2 then k T else (S, (Int32.ofInt (-10)))
def zs_chg (S : zS) (s : Int32) (k : zD → zS × Int32) : zS × Int32 := match zu_seti (zs_liv S) s with
  | none => (S, (Int32.ofInt (-2)))
  | some d => if 0 < zd_ki d then (S, (Int32.ofInt (-10))) else if zu_pr (zs_liv S) d 3 = 1 then (S, (Int32.ofInt (-6))) else k d
def zw_pt (w : zBy) : Bool := pt (lf w) 0 w.length
def zw_en (w : zBy) : Bool := !(decide (zw_ln w = Int64.ofNat 0))
/-- two words with one blank between them -/
def zy_two (w : zBy) : Option (zBy × zBy) := match w.idxOf? (Int32.ofNat 32) with
  | none => none
  | some i => if (Int32.ofNat 32) ∈ w.drop (i + 1) then none else some (w.take i, w.drop (i + 1))
def zs_wk (S : zS) (T : zT) (w : zBy) (follow : Bool) : Int32 := zw_walk (zs_A S) T (zs_ac S) w follow
def zs_wt (S : zS) (T : zT) (w : zBy) : Int32 := zw_to (zs_A S) T (zs_ac S) w
def zs_al (S : zS) (N : zN) (mask : Int32) : Bool := zn_al (zs_A S) N (zs_ac S) mask
def zq_look (S0 : zS) (tree : Int32) (follow : Bool) : zS × Int32 := if zs_up S0 = false then (zs_tp S0 [], (Int32.ofInt (-9))) else if zw_pt (zs_w S0) = false then (zs_tp S0 [], (Int32.ofInt (-11))) else zs_fol (zs_tp S0 []) tree (fun T => (zs_tp S0 [], zs_wk S0 T (zs_w S0) follow))
/-- behind a change: the answer, and doubles -/
def zs_fin (q : zS × Int32 × Nat) (k : zS → zS × Int32) : zS × Int32 := if q.2.1 < (Int32.ofNat 0) then (q.1, q.2.1) else zs_good (k q.1).1 (k q.1).2 q.2.2
def zx_ch (l : List Nat) (n1 n2 : Int64) (b : zBy) : zH := (zn_ls l, n1, n2, b)
/-- an object is made in a folder: its number, or a code -/
def zx_mk (S : zS) (d : zD) (u fo : Nat) (na : Int64) (ki : Nat) (ph : zBy) : zS × Int32 :=
  if (zn_f (zt_n (zd_tr d) fo) na).isSome then (S, (Int32.ofInt (-4))) else if zn_al (zs_A S) (zt_n (zd_tr d) fo) u (Int32.ofNat 3) = false then (S, (Int32.ofInt (-6))) else match zt_free (zd_tr d) with
  | none => (S, (Int32.ofInt (-3)))
  | some o => if zn_at (zt_n (zd_tr d) fo) 5 = 8 then (S, (Int32.ofInt (-3))) else zs_fin (zs_perf S d (zx_ch [1, fo, o, ki, if ki = 1 then 420 else if ki = 2 then 493 else 511, 0, zs_ck S, u] na 0 ph)) (fun S => (zs_tell S (zd_no d) fo o 1, (Int32.ofNat o)))
def zq_make (S0 : zS) (s kind : Int32) : zS × Int32 := if zs_up S0 = false then (zs_tp S0 [], (Int32.ofInt (-9))) else if kind < (Int32.ofNat 1) ∨ (Int32.ofNat 3) < kind then (zs_tp S0 [], (Int32.ofInt (-1)))
  else match (if kind = (Int32.ofNat 3) then zy_two (zs_w S0) else some (zs_w S0, [])) with
  | none => (zs_tp S0 [], (Int32.ofInt (-11)))
  | some (w, ph) => if zw_pt w = false ∨ zw_en w = false ∨ zw_pt ph = false ∨ 24 < ph.length then (zs_tp S0 [], (Int32.ofInt (-11))) else zs_chg (zs_tp S0 []) s (fun d =>
    if zs_wt S0 (zd_tr d) w < (Int32.ofNat 0) then (zs_tp S0 [], zs_wt S0 (zd_tr d) w) else zx_mk (zs_tp S0 []) d (zs_ac S0) (zs_wt S0 (zd_tr d) w).toNatClampNeg (zw_ln w) kind.toNatClampNeg ph)
def zq_link (S0 : zS) (s : Int32) : zS × Int32 := if zs_up S0 = false then (zs_tp S0 [], (Int32.ofInt (-9))) else match zy_two (zs_w S0) with
  | none => (zs_tp S0 [], (Int32.ofInt (-11)))
  | some (w, v) => if zw_pt w = false ∨ zw_pt v = false ∨ zw_en v = false then (zs_tp S0 [], (Int32.ofInt (-11))) else zs_chg (zs_tp S0 []) s (fun d =>
    if zs_wk S0 (zd_tr d) w false < (Int32.ofNat 0) then (zs_tp S0 [], zs_wk S0 (zd_tr d) w false) else if ¬ zn_at (zt_n (zd_tr d) (zs_wk S0 (zd_tr d) w false).toNatClampNeg) 0 = 1 then (zs_tp S0 [], (Int32.ofInt (-10)))
    else if zs_wt S0 (zd_tr d) v < (Int32.ofNat 0) then (zs_tp S0 [], zs_wt S0 (zd_tr d) v) else if (zn_f (zt_n (zd_tr d) (zs_wt S0 (zd_tr d) v).toNatClampNeg) (zw_ln v)).isSome then (zs_tp S0 [], (Int32.ofInt (-4)))
    else if zs_al S0 (zt_n (zd_tr d) (zs_wt S0 (zd_tr d) v).toNatClampNeg) (Int32.ofNat 3) = false then (zs_tp S0 [], (Int32.ofInt (-6))) else if zn_at (zt_n (zd_tr d) (zs_wt S0 (zd_tr d) v).toNatClampNeg) 5 = 8 then (zs_tp S0 [], (Int32.ofInt (-3)))
    else zs_fin (zs_perf (zs_tp S0 []) d (zx_ch [2, (zs_wt S0 (zd_tr d) v).toNatClampNeg, (zs_wk S0 (zd_tr d) w false).toNatClampNeg, 0, 0, 0, zs_ck S0, zs_ac S0] (zw_ln v) 0 [])) (fun S => (zs_tell S (zd_no d) (zs_wt S0 (zd_tr d) v).toNatClampNeg (zs_wk S0 (zd_tr d) w false).toNatClampNeg 1, zs_wk S0 (zd_tr d) w false)))
/-- whether a file is open -/
def zs_io (S : zS) (tree ob : Nat) : Bool := (List.range 8).any (fun f => match zs_fo S f with | none => false | some o => decide (zo_tree o = tree) && decide (zo_obj o = ob))
/-- an entry goes -/
def zx_rm (S : zS) (d : zD) (fo : Nat) (na : Int64) (o : Nat) : zS × Int32 :=
  if zn_at (zt_n (zd_tr d) o) 0 = 2 ∧ 0 < zn_at (zt_n (zd_tr d) o) 5 then (S, (Int32.ofInt (-5))) else if zn_at (zt_n (zd_tr d) o) 4 ≤ 1 ∧ zs_io S (2 * zd_no d) o = true then (S, (Int32.ofInt (-5)))
  else zs_fin (zs_perf S d (zx_ch [3, fo, o, 0, 0, 0, zs_ck S, zs_ac S] na 0 [])) (fun S => (if zn_at (zt_n (zd_tr d) o) 0 = 2 then zs_wend (zs_tell S (zd_no d) fo o 2) (zd_no d) (some o) else zs_tell S (zd_no d) fo o 2, (Int32.ofNat o)))
def zq_remove (S0 : zS) (s : Int32) : zS × Int32 := if zs_up S0 = false then (zs_tp S0 [], (Int32.ofInt (-9))) else if zw_pt (zs_w S0) = false ∨ zw_en (zs_w S0) = false then (zs_tp S0 [], (Int32.ofInt (-11))) else zs_chg (zs_tp S0 []) s (fun d =>
  if zs_wt S0 (zd_tr d) (zs_w S0) < (Int32.ofNat 0) then (zs_tp S0 [], zs_wt S0 (zd_tr d) (zs_w S0)) else match zn_f (zt_n (zd_tr d) (zs_wt S0 (zd_tr d) (zs_w S0)).toNatClampNeg) (zw_ln (zs_w S0)) with
  | none => (zs_tp S0 [], (Int32.ofInt (-2)))
  | some o => if zs_al S0 (zt_n (zd_tr d) (zs_wt S0 (zd_tr d) (zs_w S0)).toNatClampNeg) (Int32.ofNat 3) = false then (zs_tp S0 [], (Int32.ofInt (-6))) else zx_rm (zs_tp S0 []) d (zs_wt S0 (zd_tr d) (zs_w S0)).toNatClampNeg (zw_ln (zs_w S0)) o)
/-- whether a folder is an object or below it -/
def zt_bel (T : zT) (ob : Nat) : Nat → Nat → Bool
  | 0, _ => false
  | F + 1, x => decide (x = ob) || (!(decide (x = 0)) && zt_bel T ob F (zn_pa (zt_n T x)))
def zx_mv (S : zS) (d : zD) (fo to : Nat) (na n2 : Int64) : zS × Int32 := match zn_f (zt_n (zd_tr d) fo) na with
  | none => (S, (Int32.ofInt (-2)))
  | some o => if (zn_f (zt_n (zd_tr d) to) n2).isSome then (S, (Int32.ofInt (-4))) else if zs_al S (zt_n (zd_tr d) fo) (Int32.ofNat 3) = false ∨ zs_al S (zt_n (zd_tr d) to) (Int32.ofNat 3) = false then (S, (Int32.ofInt (-6)))
    else if zn_at (zt_n (zd_tr d) o) 0 = 2 ∧ zt_bel (zd_tr d) o 17 to = true then (S, (Int32.ofInt (-5))) else if ¬ to = fo ∧ zn_at (zt_n (zd_tr d) to) 5 = 8 then (S, (Int32.ofInt (-3)))
    else zs_fin (zs_perf S d (zx_ch [4, fo, o, to, 0, 0, zs_ck S, zs_ac S] na n2 [])) (fun S => (zs_tell (zs_tell S (zd_no d) fo o 3) (zd_no d) to o 4, (Int32.ofNat o)))
def zq_move (S0 : zS) (s : Int32) : zS × Int32 := if zs_up S0 = false then (zs_tp S0 [], (Int32.ofInt (-9))) else match zy_two (zs_w S0) with
  | none => (zs_tp S0 [], (Int32.ofInt (-11)))
  | some (w, v) => if zw_pt w = false ∨ zw_en w = false ∨ zw_pt v = false ∨ zw_en v = false then (zs_tp S0 [], (Int32.ofInt (-11))) else zs_chg (zs_tp S0 []) s (fun d =>
    if zs_wt S0 (zd_tr d) w < (Int32.ofNat 0) then (zs_tp S0 [], zs_wt S0 (zd_tr d) w) else if (zn_f (zt_n (zd_tr d) (zs_wt S0 (zd_tr d) w).toNatClampNeg) (zw_ln w)).isNone then (zs_tp S0 [], (Int32.ofInt (-2)))
    else if zs_wt S0 (zd_tr d) v < (Int32.ofNat 0) then (zs_tp S0 [], zs_wt S0 (zd_tr d) v) else zx_mv (zs_tp S0 []) d (zs_wt S0 (zd_tr d) w).toNatClampNeg (zs_wt S0 (zd_tr d) v).toNatClampNeg (zw_ln w) (zw_ln v))
/-- an object by an int -/
def zt_oi (T : zT) (o : Int32) : Option zN := if o < (Int32.ofNat 0) ∨ (Int32.ofNat 15) < o then none else zt_ob T o.toNatClampNeg
def zq_list (S : zS) (tree o k : Int32) : zS × Int32 := if zs_up S = false then (S, (Int32.ofInt (-9))) else zs_fol S tree (fun T => match zt_oi T o with
  | none => (S, (Int32.ofInt (-2)))
  | some N => if ¬ zn_at N 0 = 2 then (S, (Int32.ofInt (-10))) else if zs_al S N (Int32.ofNat 4) = false then (S, (Int32.ofInt (-6))) else if k < (Int32.ofNat 0) then (S, (Int32.ofInt (-2))) else match (zn_en N)[k.toNatClampNeg]? with
    | none => (S, (Int32.ofInt (-2)))
    | some e => (zs_ou S (zy_nb e.1), (Int32.ofNat (e.2))))
def zn_np (N : zN) : Nat := ((List.range 8).filter (fun k => (zn_pt N k).isSome)).length
def zq_attribute (S : zS) (tree o what : Int32) : zS × Int32 := (S, if zs_up S = false then (Int32.ofInt (-9)) else if what < (Int32.ofNat 0) ∨ (Int32.ofNat 9) < what then (Int32.ofInt (-1)) else match (zu_treei (zs_liv S) tree).bind (fun T => zt_oi T o) with
  | none => (Int32.ofInt (-2))
  | some N => if what < (Int32.ofNat 8) then (Int32.ofNat (zn_at N what.toNatClampNeg)) else if what = (Int32.ofNat 8) then (Int32.ofNat ((zn_rw N).length)) else if zn_at N 0 = 2 then (Int32.ofNat (zn_pa N)) else if zn_at N 0 = 3 then (Int32.ofNat 0) else (Int32.ofNat (zn_np N)))
def zq_change (S : zS) (s o what v : Int32) : zS × Int32 := if zs_up S = false then (S, (Int32.ofInt (-9))) else if (what < (Int32.ofNat 1) ∨ (Int32.ofNat 3) < what) ∨ v < (Int32.ofNat 0) ∨ (if what = (Int32.ofNat 1) then (Int32.ofNat 511) else (Int32.ofNat 7)) < v then (S, (Int32.ofInt (-1))) else zs_chg S s (fun d => match zt_oi (zd_tr d) o with
  | none => (S, (Int32.ofInt (-2)))
  | some N => if zs_ac S = 0 ∨ (¬ what = (Int32.ofNat 2) ∧ zs_ac S = zn_at N 2 ∧ (what = (Int32.ofNat 1) ∨ za_cls (zs_A S) (8 * zs_ac S + v.toNatClampNeg) = true)) then
      zs_fin (zs_perf S d (zx_ch [5, o.toNatClampNeg, 0, what.toNatClampNeg, v.toNatClampNeg, 0, zs_ck S, zs_ac S] 0 0 [])) (fun S => (zs_tella S (zd_no d) o.toNatClampNeg 6, (Int32.ofNat 0))) else (S, (Int32.ofInt (-6))))
def zq_grant (S : zS) (s o kind who mask : Int32) : zS × Int32 := if zs_up S = false then (S, (Int32.ofInt (-9)))
  else if ¬ (kind = (Int32.ofNat 2) ∨ ((kind = (Int32.ofNat 0) ∨ kind = (Int32.ofNat 1)) ∧ ((¬ who < (Int32.ofNat 0) ∧ ¬ (Int32.ofNat 2) < who) ∨ (¬ who < (Int32.ofNat 8) ∧ ¬ (Int32.ofNat 23) < who)) ∧ ¬ mask < (Int32.ofNat 1) ∧ ¬ (Int32.ofNat 7) < mask)) then (S, (Int32.ofInt (-1))) else zs_chg S s (fun d => match zt_oi (zd_tr d) o with
  | none => (S, (Int32.ofInt (-2)))
  | some N => if ¬ (zs_ac S = 0 ∨ zs_ac S = zn_at N 2) then (S, (Int32.ofInt (-6))) else if ¬ kind = (Int32.ofNat 2) ∧ (zn_rw N).length = 4 then (S, (Int32.ofInt (-3)))
    else zs_fin (zs_perf S d (zx_ch [6, o.toNatClampNeg, 0, kind.toNatClampNeg, if kind = (Int32.ofNat 2) then 0 else who.toNatClampNeg, if kind = (Int32.ofNat 2) then 0 else mask.toNatClampNeg, zs_ck S, zs_ac S] 0 0 [])) (fun S => (zs_tella S (zd_no d) o.toNatClampNeg 6, (Int32.ofNat (if kind = (Int32.ofNat 2) then 0 else (zn_rw N).length + 1)))))
def zq_may (S : zS) (tree o u mask : Int32) : zS × Int32 := (S, if zs_up S = false then (Int32.ofInt (-9)) else if (u < (Int32.ofNat 0) ∨ (Int32.ofNat 7) < u) ∨ (mask < (Int32.ofNat 1) ∨ (Int32.ofNat 7) < mask) then (Int32.ofInt (-1)) else match (zu_treei (zs_liv S) tree).bind (fun T => zt_oi T o) with
  | none => (Int32.ofInt (-2))
  | some N => bi (zn_al (zs_A S) N u.toNatClampNeg mask))
/-- files -/
def zf_fr (S : zS) : Option Nat := ffi (fun f => (zs_fo S f).isNone) 8 0
def zb_t (x n : Nat) : Bool := Nat.testBit x n
def zo_new (tree o flags : Nat) : zO := (tree, o, flags, 0, 0, none, fun _ => 0)
def zs_put_f (S : zS) (f : Nat) (o : Option zO) : zS := zs_fl S (fu (zs_fo S) f o)
/-- leases that an opening bars -/
def zo_br (tree o : Nat) (wr : Bool) (x : zO) : Bool := decide (zo_tree x = tree) && decide (zo_obj x = o) && !(decide (zo_lease x = 0)) && (wr || !(decide (zo_lease x = 1)))
def zs_rcl (S : zS) (tree o : Nat) (wr : Bool) : zS := zs_fl S (fun f => (zs_fo S f).map (fun x => if zo_br tree o wr x = true ∧ zo_rec x = none then zo_rec_ x (some (zs_ck S)) else x))
def zq_op2 (S : zS) (f tree flags : Nat) (T : zT) (w : zBy) : zS × Int32 :=
  if zs_wk S T w true < (Int32.ofNat 0) then (S, zs_wk S T w true) else if zb_t flags 3 then (S, (Int32.ofInt (-4))) else if ¬ zn_at (zt_n T (zs_wk S T w true).toNatClampNeg) 0 = 1 then (S, (Int32.ofInt (-10)))
  else if (zb_t flags 0 = true ∧ zs_al S (zt_n T (zs_wk S T w true).toNatClampNeg) (Int32.ofNat 4) = false) ∨ (zb_t flags 1 = true ∧ zs_al S (zt_n T (zs_wk S T w true).toNatClampNeg) (Int32.ofNat 2) = false) then (S, (Int32.ofInt (-6)))
  else if (List.range 8).any (fun g => match zs_fo S g with | none => false | some x => decide (zo_tree x = tree) && decide (zo_obj x = (zs_wk S T w true).toNatClampNeg) && (zb_t flags 6 || zb_t (zo_flags x) 6)) then (S, (Int32.ofInt (-5)))
  else if (List.range 8).any (fun g => match zs_fo S g with | none => false | some x => zo_br tree (zs_wk S T w true).toNatClampNeg (zb_t flags 1) x) then (zs_rcl S tree (zs_wk S T w true).toNatClampNeg (zb_t flags 1), (Int32.ofInt (-5)))
  else if zb_t flags 4 = true ∧ 0 < zn_at (zt_n T (zs_wk S T w true).toNatClampNeg) 5 then (match zu_set (zs_liv S) (tree / 2) with
    | none => (S, (Int32.ofInt (-2)))
    | some d => zs_fin (zs_perf S d (zx_ch [8, (zs_wk S T w true).toNatClampNeg, 0, 0, 0, 0, zs_ck S, zs_ac S] 0 0 [])) (fun S' => (zs_put_f (zs_tella S' (zd_no d) (zs_wk S T w true).toNatClampNeg 5) f (some (zo_new tree (zs_wk S T w true).toNatClampNeg flags)), (Int32.ofNat f))))
  else (zs_put_f S f (some (zo_new tree (zs_wk S T w true).toNatClampNeg flags)), (Int32.ofNat f))
def zq_open (S0 : zS) (tree flags : Int32) : zS × Int32 := if zs_up S0 = false then (zs_tp S0 [], (Int32.ofInt (-9)))
  else if (flags < (Int32.ofNat 1) ∨ (Int32.ofNat 127) < flags) ∨ (zb_t flags.toNatClampNeg 0 = false ∧ zb_t flags.toNatClampNeg 1 = false) ∨ (zb_t flags.toNatClampNeg 3 = true ∧ zb_t flags.toNatClampNeg 2 = false) ∨ ((zb_t flags.toNatClampNeg 4 = true ∨ zb_t flags.toNatClampNeg 5 = true) ∧ zb_t flags.toNatClampNeg 1 = false) then (zs_tp S0 [], (Int32.ofInt (-1)))
  else if zw_pt (zs_w S0) = false then (zs_tp S0 [], (Int32.ofInt (-11))) else match zf_fr S0 with
  | none => (zs_tp S0 [], (Int32.ofInt (-3)))
  | some f => zs_fol (zs_tp S0 []) tree (fun T => if (zb_t flags.toNatClampNeg 1 = true ∨ zb_t flags.toNatClampNeg 2 = true) ∧ ¬ (tree.toNatClampNeg % 2 = 0 ∧ (match zu_set (zs_liv S0) (tree.toNatClampNeg / 2) with | none => 0 | some d => zu_pr (zs_liv S0) d 3) = 0) then (zs_tp S0 [], (Int32.ofInt (-6)))
    else if zb_t flags.toNatClampNeg 2 = true ∧ zw_en (zs_w S0) = true then (if zs_wt S0 T (zs_w S0) < (Int32.ofNat 0) then (zs_tp S0 [], zs_wt S0 T (zs_w S0))
      else if (zn_f (zt_n T (zs_wt S0 T (zs_w S0)).toNatClampNeg) (zw_ln (zs_w S0))).isNone then (match zu_set (zs_liv S0) (tree.toNatClampNeg / 2) with
        | none => (zs_tp S0 [], (Int32.ofInt (-2)))
        | some d => if (zx_mk (zs_tp S0 []) d (zs_ac S0) (zs_wt S0 T (zs_w S0)).toNatClampNeg (zw_ln (zs_w S0)) 1 []).2 < (Int32.ofNat 0) then zx_mk (zs_tp S0 []) d (zs_ac S0) (zs_wt S0 T (zs_w S0)).toNatClampNeg (zw_ln (zs_w S0)) 1 []
          else (zs_put_f (zx_mk (zs_tp S0 []) d (zs_ac S0) (zs_wt S0 T (zs_w S0)).toNatClampNeg (zw_ln (zs_w S0)) 1 []).1 f (some (zo_new tree.toNatClampNeg (zx_mk (zs_tp S0 []) d (zs_ac S0) (zs_wt S0 T (zs_w S0)).toNatClampNeg (zw_ln (zs_w S0)) 1 []).2.toNatClampNeg flags.toNatClampNeg)), (Int32.ofNat f)))
      else zq_op2 (zs_tp S0 []) f tree.toNatClampNeg flags.toNatClampNeg T (zs_w S0))
    else zq_op2 (zs_tp S0 []) f tree.toNatClampNeg flags.toNatClampNeg T (zs_w S0))
/-- a descriptor by an int -/
def zs_f (S : zS) (f : Int32) (k : Nat → zO → zS × Int32) : zS × Int32 := match zs_fo S f.toNatClampNeg with
  | none => (S, (Int32.ofInt (-2)))
  | some o => k f.toNatClampNeg o
def zq_close (S : zS) (f : Int32) : zS × Int32 := if zs_up S = false then (S, (Int32.ofInt (-9))) else if f < (Int32.ofNat 0) ∨ (Int32.ofNat 7) < f then (S, (Int32.ofInt (-1))) else zs_f S f (fun f _ => (zs_put_f S f none, (Int32.ofNat 0)))
/-- whether another descriptor has bytes locked -/
def zs_an (S : zS) (f : Nat) (o : zO) (g : Nat) : Option zO := if g = f then none else (zs_fo S g).filter (fun x => decide (zo_tree x = zo_tree o) && decide (zo_obj x = zo_obj o))
def zs_bar (S : zS) (f : Nat) (o : zO) (a b least : Nat) : Bool := (List.range 8).any (fun g => match zs_an S f o g with | none => false | some x => (List.range (b - a)).any (fun i => decide (least ≤ zo_lk x (min 1000 (a + i)))))
def zo_n (S : zS) (o : zO) : zN := zt_n ((zu_tree (zs_liv S) (zo_tree o)).getD (0, fun _ => none)) (zo_obj o)
def zx_rks (N : zN) (a b : Nat) : List (Nat × Option zB) := (zx_ks (a / 32) ((b + 31) / 32)).map (fun k => (k, zn_pt N k))
def zq_read (S : zS) (f n : Int32) : zS × Int32 := if zs_up S = false then (S, (Int32.ofInt (-9))) else if (f < (Int32.ofNat 0) ∨ (Int32.ofNat 7) < f) ∨ (n < (Int32.ofNat 0) ∨ (Int32.ofNat 256) < n) then (S, (Int32.ofInt (-1))) else zs_f S f (fun f o =>
  if zb_t (zo_flags o) 0 = false then (S, (Int32.ofInt (-6))) else if zs_bar S f o (zo_place o) (zo_place o + n.toNatClampNeg) 2 then (S, (Int32.ofInt (-5)))
  else if min (zo_place o + n.toNatClampNeg) (zn_at (zo_n S o) 5) ≤ zo_place o then (zs_ou S [], (Int32.ofNat 0))
  else if (zs_rds S (zx_rks (zo_n S o) (zo_place o) (min (zo_place o + n.toNatClampNeg) (zn_at (zo_n S o) 5))) (fun _ => (Int32.ofNat 0))).2.1 = (Int32.ofNat 0) then
    (zs_put_f (zs_ou (zs_rds S (zx_rks (zo_n S o) (zo_place o) (min (zo_place o + n.toNatClampNeg) (zn_at (zo_n S o) 5))) (fun _ => (Int32.ofNat 0))).1 (lm (zs_rds S (zx_rks (zo_n S o) (zo_place o) (min (zo_place o + n.toNatClampNeg) (zn_at (zo_n S o) 5))) (fun _ => (Int32.ofNat 0))).2.2 (zo_place o) (min (zo_place o + n.toNatClampNeg) (zn_at (zo_n S o) 5) - zo_place o))) f (some (zo_place_ o (min (zo_place o + n.toNatClampNeg) (zn_at (zo_n S o) 5)))), (Int32.ofNat (min (zo_place o + n.toNatClampNeg) (zn_at (zo_n S o) 5) - zo_place o)))
  else ((zs_rds S (zx_rks (zo_n S o) (zo_place o) (min (zo_place o + n.toNatClampNeg) (zn_at (zo_n S o) 5))) (fun _ => (Int32.ofNat 0))).1, (zs_rds S (zx_rks (zo_n S o) (zo_place o) (min (zo_place o + n.toNatClampNeg) (zn_at (zo_n S o) 5))) (fun _ => (Int32.ofNat 0))).2.1))
/-- the set of a file that may be written to -/
def zs_wri (S : zS) (o : zO) (k : zD → zS × Int32) : zS × Int32 := if zb_t (zo_flags o) 1 = false then (S, (Int32.ofInt (-6))) else match zu_set (zs_liv S) (zo_tree o / 2) with
  | none => (S, (Int32.ofInt (-6)))
  | some d => if zu_pr (zs_liv S) d 3 = 1 then (S, (Int32.ofInt (-6))) else k d
def zq_write (S0 : zS) (f : Int32) : zS × Int32 := if zs_up S0 = false then (zs_tp S0 [], (Int32.ofInt (-9))) else if f < (Int32.ofNat 0) ∨ (Int32.ofNat 7) < f then (zs_tp S0 [], (Int32.ofInt (-1))) else if (zs_w S0).length < 1 ∨ 256 < (zs_w S0).length then (zs_tp S0 [], (Int32.ofInt (-11))) else zs_f (zs_tp S0 []) f (fun f o => zs_wri (zs_tp S0 []) o (fun d =>
  if 256 < (if zb_t (zo_flags o) 5 then zn_at (zo_n S0 o) 5 else zo_place o) + (zs_w S0).length then (zs_tp S0 [], (Int32.ofInt (-3)))
  else if zs_bar S0 f o (if zb_t (zo_flags o) 5 then zn_at (zo_n S0 o) 5 else zo_place o) ((if zb_t (zo_flags o) 5 then zn_at (zo_n S0 o) 5 else zo_place o) + (zs_w S0).length) 1 then (zs_tp S0 [], (Int32.ofInt (-5)))
  else zs_fin (zs_perf (zs_tp S0 []) d (zx_ch [7, zo_obj o, if zb_t (zo_flags o) 5 then zn_at (zo_n S0 o) 5 else zo_place o, 0, 0, 0, zs_ck S0, zs_ac S0] 0 0 (zs_w S0)))
    (fun S => (zs_put_f (zs_tella S (zd_no d) (zo_obj o) 5) f (some (zo_place_ o ((if zb_t (zo_flags o) 5 then zn_at (zo_n S0 o) 5 else zo_place o) + (zs_w S0).length))), (Int32.ofNat ((zs_w S0).length))))))
/-- the first byte from a place on that is data, or in a hole -/
def zq_seek (S : zS) (f kind n : Int32) : zS × Int32 := if zs_up S = false then (S, (Int32.ofInt (-9))) else if (f < (Int32.ofNat 0) ∨ (Int32.ofNat 7) < f) ∨ (kind < (Int32.ofNat 0) ∨ (Int32.ofNat 2) < kind) ∨ (n < (Int32.ofNat 0) ∨ (Int32.ofNat 256) < n) then (S, (Int32.ofInt (-1))) else zs_f S f (fun f o =>
  if kind = (Int32.ofNat 0) then (zs_put_f S f (some (zo_place_ o n.toNatClampNeg)), n) else match ffi (fun p => (zn_pt (zo_n S o) (p / 32)).isSome == decide (kind = (Int32.ofNat 1))) (zn_at (zo_n S o) 5 - n.toNatClampNeg) n.toNatClampNeg with
  | none => (S, (Int32.ofInt (-2)))
  | some p => (zs_put_f S f (some (zo_place_ o p)), (Int32.ofNat p)))
def zq_cut (S : zS) (f n : Int32) : zS × Int32 := if zs_up S = false then (S, (Int32.ofInt (-9))) else if (f < (Int32.ofNat 0) ∨ (Int32.ofNat 7) < f) ∨ (n < (Int32.ofNat 0) ∨ (Int32.ofNat 256) < n) then (S, (Int32.ofInt (-1))) else zs_f S f (fun f o => zs_wri S o (fun d =>
  if zs_bar S f o (min n.toNatClampNeg (zn_at (zo_n S o) 5)) (max n.toNatClampNeg (zn_at (zo_n S o) 5)) 1 then (S, (Int32.ofInt (-5))) else if n.toNatClampNeg = zn_at (zo_n S o) 5 then (S, (Int32.ofNat 0))
  else zs_fin (zs_perf S d (zx_ch [8, zo_obj o, n.toNatClampNeg, 0, 0, 0, zs_ck S, zs_ac S] 0 0 [])) (fun S => (zs_tella S (zd_no d) (zo_obj o) 5, (Int32.ofNat 0)))))
def zq_hole (S : zS) (f a n : Int32) : zS × Int32 := if zs_up S = false then (S, (Int32.ofInt (-9))) else if (f < (Int32.ofNat 0) ∨ (Int32.ofNat 7) < f) ∨ (a < (Int32.ofNat 0) ∨ (Int32.ofNat 255) < a) ∨ (n < (Int32.ofNat 1) ∨ (Int32.ofNat 256) < n) then (S, (Int32.ofInt (-1))) else zs_f S f (fun f o => zs_wri S o (fun d =>
  if zs_bar S f o a.toNatClampNeg (min (a.toNatClampNeg + n.toNatClampNeg) (zn_at (zo_n S o) 5)) 1 then (S, (Int32.ofInt (-5))) else if min (a.toNatClampNeg + n.toNatClampNeg) (zn_at (zo_n S o) 5) ≤ a.toNatClampNeg then (S, (Int32.ofNat 0))
  else zs_fin (zs_perf S d (zx_ch [9, zo_obj o, a.toNatClampNeg, min (a.toNatClampNeg + n.toNatClampNeg) (zn_at (zo_n S o) 5) - a.toNatClampNeg, 0, 0, zs_ck S, zs_ac S] 0 0 [])) (fun S' => (zs_tella S' (zd_no d) (zo_obj o) 5, (Int32.ofNat (min (a.toNatClampNeg + n.toNatClampNeg) (zn_at (zo_n S o) 5) - a.toNatClampNeg))))))
def zq_range (S : zS) (f g a t n : Int32) : zS × Int32 := if zs_up S = false then (S, (Int32.ofInt (-9))) else if (f < (Int32.ofNat 0) ∨ (Int32.ofNat 7) < f) ∨ (g < (Int32.ofNat 0) ∨ (Int32.ofNat 7) < g) ∨ (n < (Int32.ofNat 1) ∨ (Int32.ofNat 8) < n) ∨ a < (Int32.ofNat 0) ∨ t < (Int32.ofNat 0) ∨ (Int32.ofNat 8) - n < a ∨ (Int32.ofNat 8) - n < t then (S, (Int32.ofInt (-1))) else zs_f S f (fun f o => zs_f S g (fun g p =>
  if zb_t (zo_flags o) 0 = false then (S, (Int32.ofInt (-6))) else zs_wri S p (fun d => if ¬ zo_tree o = zo_tree p then (S, (Int32.ofInt (-10))) else if zx_may (zo_n S o) (zo_n S p) a.toNatClampNeg t.toNatClampNeg n.toNatClampNeg = false then (S, (Int32.ofInt (-1)))
  else if zs_bar S g p (32 * t.toNatClampNeg) (32 * (t.toNatClampNeg + n.toNatClampNeg)) 1 then (S, (Int32.ofInt (-5)))
  else zs_fin (zs_perf S d (zx_ch [10, zo_obj o, zo_obj p, a.toNatClampNeg, t.toNatClampNeg, n.toNatClampNeg, zs_ck S, zs_ac S] 0 0 [])) (fun S => (zs_tella S (zd_no d) (zo_obj p) 5, (Int32.ofNat 0))))))
def zs_sync (S : zS) (d : zD) : zS × Int32 := if zu_pr (zs_liv S) d 4 = 2 then (S, (Int32.ofNat ((zs_R S (zd_no d)).2))) else if (zs_prom S (zd_no d)).2 < (Int32.ofNat 0) then zs_prom S (zd_no d) else ((zs_prom S (zd_no d)).1, (Int32.ofNat ((zs_R (zs_prom S (zd_no d)).1 (zd_no d)).2)))
def zq_sync (S : zS) (s : Int32) : zS × Int32 := if zs_up S = false then (S, (Int32.ofInt (-9))) else match zu_seti (zs_liv S) s with
  | none => (S, (Int32.ofInt (-2)))
  | some d => zs_sync S d
def zq_lock (S : zS) (f a n kind : Int32) : zS × Int32 := if zs_up S = false then (S, (Int32.ofInt (-9))) else if (f < (Int32.ofNat 0) ∨ (Int32.ofNat 7) < f) ∨ (a < (Int32.ofNat 0) ∨ (Int32.ofNat 255) < a) ∨ (n < (Int32.ofNat 0) ∨ (Int32.ofNat 256) < n) ∨ (kind < (Int32.ofNat 0) ∨ (Int32.ofNat 2) < kind) then (S, (Int32.ofInt (-1))) else zs_f S f (fun f o =>
  if ¬ kind = (Int32.ofNat 0) ∧ zs_bar S f o a.toNatClampNeg (if n = (Int32.ofNat 0) then 1001 else a.toNatClampNeg + n.toNatClampNeg) (if kind = (Int32.ofNat 1) then 2 else 1) = true then (S, (Int32.ofInt (-5)))
  else (zs_put_f S f (some (zo_lk_ o (fun k => if a.toNatClampNeg ≤ k ∧ k < (if n = (Int32.ofNat 0) then 1001 else a.toNatClampNeg + n.toNatClampNeg) then kind.toNatClampNeg else zo_lk o k))), (Int32.ofNat 0)))
def zq_locked (S : zS) (f a : Int32) : zS × Int32 := if zs_up S = false then (S, (Int32.ofInt (-9))) else if (f < (Int32.ofNat 0) ∨ (Int32.ofNat 7) < f) ∨ (a < (Int32.ofNat 0) ∨ (Int32.ofNat 1000) < a) then (S, (Int32.ofInt (-1))) else zs_f S f (fun _ o => (S, (Int32.ofNat (zo_lk o a.toNatClampNeg))))
def zq_lease (S : zS) (f kind : Int32) : zS × Int32 := if zs_up S = false then (S, (Int32.ofInt (-9))) else if (f < (Int32.ofNat 0) ∨ (Int32.ofNat 7) < f) ∨ (kind < (Int32.ofNat 0) ∨ (Int32.ofNat 2) < kind) then (S, (Int32.ofInt (-1))) else zs_f S f (fun f o =>
  if (List.range 8).any (fun g => match zs_an S f o g with | none => false | some x => decide (kind = (Int32.ofNat 2)) || (decide (kind = (Int32.ofNat 1)) && zb_t (zo_flags x) 1)) then (S, (Int32.ofInt (-5))) else (zs_put_f S f (some (zo_rec_ (zo_lease_ o kind.toNatClampNeg) none)), (Int32.ofNat 0)))
def zq_leased (S : zS) (f : Int32) : zS × Int32 := if zs_up S = false then (S, (Int32.ofInt (-9))) else if f < (Int32.ofNat 0) ∨ (Int32.ofNat 7) < f then (S, (Int32.ofInt (-1))) else zs_f S f (fun _ o => (S, (Int32.ofNat (zo_lease o + if (zo_rec o).isSome then 4 else 0))))
def zs_wa (S : zS) : Nat → Option zW := zf_wt (zs_F S)
def zs_wa_ (S : zS) (w : Nat) (W : Option zW) : zS := zs_F_ S (zf_wt_ (zs_F S) (fu (zs_wa S) w W))
def zq_watch (S0 : zS) (s : Int32) : zS × Int32 := if zs_up S0 = false then (zs_tp S0 [], (Int32.ofInt (-9))) else if zw_pt (zs_w S0) = false then (zs_tp S0 [], (Int32.ofInt (-11))) else match zu_seti (zs_liv S0) s with
  | none => (zs_tp S0 [], (Int32.ofInt (-2)))
  | some d => if 0 < zd_ki d then (zs_tp S0 [], (Int32.ofInt (-10))) else if zs_wk S0 (zd_tr d) (zs_w S0) true < (Int32.ofNat 0) then (zs_tp S0 [], zs_wk S0 (zd_tr d) (zs_w S0) true)
    else if ¬ zn_at (zt_n (zd_tr d) (zs_wk S0 (zd_tr d) (zs_w S0) true).toNatClampNeg) 0 = 2 then (zs_tp S0 [], (Int32.ofInt (-10))) else if zs_al S0 (zt_n (zd_tr d) (zs_wk S0 (zd_tr d) (zs_w S0) true).toNatClampNeg) (Int32.ofNat 4) = false then (zs_tp S0 [], (Int32.ofInt (-6)))
    else (match ffi (fun w => (zs_wa S0 w).isNone) 4 0 with
      | none => (zs_tp S0 [], (Int32.ofInt (-3)))
      | some w => (zs_wa_ (zs_tp S0 []) w (some (zd_no d, (zs_wk S0 (zd_tr d) (zs_w S0) true).toNatClampNeg, [], false)), (Int32.ofNat w)))
def zs_wi (S : zS) (w : Int32) (k : Nat → zW → zS × Int32) : zS × Int32 := if zs_up S = false then (S, (Int32.ofInt (-9))) else if w < (Int32.ofNat 0) ∨ (Int32.ofNat 3) < w then (S, (Int32.ofInt (-1))) else match zs_wa S w.toNatClampNeg with
  | none => (S, (Int32.ofInt (-2)))
  | some W => k w.toNatClampNeg W
def zq_unwatch (S : zS) (w : Int32) : zS × Int32 := zs_wi S w (fun w _ => (zs_wa_ S w none, (Int32.ofNat 0)))
def zq_seen (S : zS) (w : Int32) : zS × Int32 := zs_wi S w (fun w W => match zw_rows W with
  | [] => (zs_wa_ S w (some (zw_losing_ W false)), if zw_losing W then (Int32.ofNat 0) else (Int32.ofInt (-2)))
  | r :: l => (zs_wa_ S w (some (zw_rows_ W l)), r))
/-- what is served: bytes are added to an answer, or a code; doubles -/
def zv_h (tree o age : Nat) : zBy := zy_1 tree ++ zy_1 o ++ zy_1 age ++ zy_1 (7 * tree + 13 * o + 29 * age + 5)
def zv_u (w : zBy) (k : Nat) : Nat := vz (lf w k)
def zv_fx (S : zS) (tree : Nat) : Option zD := if tree % 2 = 0 then (zu_set (zs_liv S) (tree / 2)).filter (fun d => !(decide (zu_pr (zs_liv S) d 3 = 1))) else none
def zv_ok (w : zBy) : Bool := decide (zv_u w 5 = (7 * zv_u w 2 + 13 * zv_u w 3 + 29 * zv_u w 4 + 5) % 256)
def zv_nm (w : zBy) (p : Nat) : Int64 := nm_v (lf w) p (w.length - p)
/-- the form of a message is good -/
def zv_fm (w : zBy) : Bool := decide (1 ≤ zv_u w 1) && decide (zv_u w 1 ≤ 8) && decide (6 ≤ w.length) && (!(decide (zv_u w 1 = 2) || decide (zv_u w 1 = 6)) || !(decide (zv_nm w 6 = Int64.ofNat 0)))
  && (!(decide (zv_u w 1 = 5)) || (!(decide (zv_nm w 7 = Int64.ofNat 0)) && (decide (zv_u w 6 = 1) || decide (zv_u w 6 = 2)))) && (!(decide (zv_u w 1 = 3)) || decide (w.length = 9)) && (!(decide (zv_u w 1 = 4)) || decide (9 ≤ w.length)) && (!(decide (7 ≤ zv_u w 1)) || decide (w.length = 6)) && zv_ok w
def zv_do (S : zS) (u : Nat) (w : zBy) (T : zT) (N : zN) : zS × Int32 × zBy :=
  if zv_u w 1 = 2 then (if ¬ zn_at N 0 = 2 then (S, (Int32.ofInt (-10)), []) else if zn_al (zs_A S) N u (Int32.ofNat 1) = false then (S, (Int32.ofInt (-6)), []) else match zn_f N (zv_nm w 6) with
    | none => (S, (Int32.ofInt (-2)), [])
    | some o => (S, (Int32.ofNat 0), zv_h (zv_u w 2) o (zn_at (zt_n T o) 7)))
  else if zv_u w 1 = 3 then (if ¬ zn_at N 0 = 1 then (S, (Int32.ofInt (-10)), []) else if zn_al (zs_A S) N u (Int32.ofNat 4) = false then (S, (Int32.ofInt (-6)), [])
    else if min (zv_u w 6 * 256 + zv_u w 7 + zv_u w 8) (zn_at N 5) ≤ zv_u w 6 * 256 + zv_u w 7 then (S, (Int32.ofNat 0), [])
    else ((zs_rds S (zx_rks N (zv_u w 6 * 256 + zv_u w 7) (min (zv_u w 6 * 256 + zv_u w 7 + zv_u w 8) (zn_at N 5))) (fun _ => (Int32.ofNat 0))).1, (zs_rds S (zx_rks N (zv_u w 6 * 256 + zv_u w 7) (min (zv_u w 6 * 256 + zv_u w 7 + zv_u w 8) (zn_at N 5))) (fun _ => (Int32.ofNat 0))).2.1, lm (zs_rds S (zx_rks N (zv_u w 6 * 256 + zv_u w 7) (min (zv_u w 6 * 256 + zv_u w 7 + zv_u w 8) (zn_at N 5))) (fun _ => (Int32.ofNat 0))).2.2 (zv_u w 6 * 256 + zv_u w 7) (min (zv_u w 6 * 256 + zv_u w 7 + zv_u w 8) (zn_at N 5) - (zv_u w 6 * 256 + zv_u w 7))))
  else if zv_u w 1 = 4 then (if ¬ zn_at N 0 = 1 then (S, (Int32.ofInt (-10)), []) else match zv_fx S (zv_u w 2) with
    | none => (S, (Int32.ofInt (-6)), [])
    | some d => if zn_al (zs_A S) N u (Int32.ofNat 2) = false then (S, (Int32.ofInt (-6)), []) else if 256 < zv_u w 6 * 256 + zv_u w 7 + (w.length - 8) then (S, (Int32.ofInt (-3)), [])
      else ((zs_fin (zs_perf S d (zx_ch [7, zv_u w 3, zv_u w 6 * 256 + zv_u w 7, 0, 0, 0, zs_ck S, u] 0 0 (w.drop 8))) (fun S => (zs_tella S (zd_no d) (zv_u w 3) 5, (Int32.ofNat 0)))).1, (zs_fin (zs_perf S d (zx_ch [7, zv_u w 3, zv_u w 6 * 256 + zv_u w 7, 0, 0, 0, zs_ck S, u] 0 0 (w.drop 8))) (fun S => (zs_tella S (zd_no d) (zv_u w 3) 5, (Int32.ofNat 0)))).2, zy_1 (w.length - 8)))
  else if zv_u w 1 = 5 then (match zv_fx S (zv_u w 2) with
    | none => (S, (Int32.ofInt (-6)), [])
    | some d => if ¬ zn_at N 0 = 2 then (S, (Int32.ofInt (-10)), []) else if zn_al (zs_A S) N u (Int32.ofNat 3) = false then (S, (Int32.ofInt (-6)), []) else ((zx_mk S d u (zv_u w 3) (zv_nm w 7) (zv_u w 6) []).1, (zx_mk S d u (zv_u w 3) (zv_nm w 7) (zv_u w 6) []).2, zv_h (zv_u w 2) (zx_mk S d u (zv_u w 3) (zv_nm w 7) (zv_u w 6) []).2.toNatClampNeg (zt_ma T)))
  else if zv_u w 1 = 6 then (match zv_fx S (zv_u w 2) with
    | none => (S, (Int32.ofInt (-6)), [])
    | some d => if ¬ zn_at N 0 = 2 then (S, (Int32.ofInt (-10)), []) else match zn_f N (zv_nm w 6) with
      | none => (S, (Int32.ofInt (-2)), [])
      | some o => if zn_al (zs_A S) N u (Int32.ofNat 3) = false then (S, (Int32.ofInt (-6)), []) else ((zx_rm S d (zv_u w 3) (zv_nm w 6) o).1, (zx_rm S d (zv_u w 3) (zv_nm w 6) o).2, []))
  else if zv_u w 1 = 7 then (S, (Int32.ofNat 0), zy_1 (zn_at N 0) ++ zy_2 (zn_at N 1) ++ zy_1 (zn_at N 2) ++ zy_1 (zn_at N 3) ++ zy_1 (zn_at N 4) ++ zy_2 (zn_at N 5) ++ zy_4 (zn_at N 6))
  else if zv_u w 2 % 2 = 1 then (S, (Int32.ofNat 0), zy_2 (zm_starts (zs_M S))) else match zu_set (zs_liv S) (zv_u w 2 / 2) with
    | none => (S, (Int32.ofInt (-14)), [])
    | some d => ((zs_sync S d).1, (zs_sync S d).2, zy_2 (zm_starts (zs_M S)))
def zv_act (S : zS) (u : Nat) (w : zBy) : zS × Int32 × zBy :=
  if zv_u w 1 = 1 then (if ¬ w.length = 3 then (S, (Int32.ofInt (-11)), []) else match (if 127 < zv_u w 2 then none else zu_set (zs_liv S) (zv_u w 2)) with
    | none => (S, (Int32.ofInt (-2)), [])
    | some d => if 0 < zd_ki d then (S, (Int32.ofInt (-10)), []) else (S, (Int32.ofNat 0), zv_h (2 * zv_u w 2) 0 (zn_at (zt_n (zd_tr d) 0) 7)))
  else if zv_fm w = false then (S, (Int32.ofInt (-11)), []) else match zu_tree (zs_liv S) (zv_u w 2) with
    | none => (S, (Int32.ofInt (-14)), [])
    | some T => (match (if 15 < zv_u w 3 then none else zt_ob T (zv_u w 3)) with
      | none => (S, (Int32.ofInt (-14)), [])
      | some N => if ¬ zn_at N 7 % 256 = zv_u w 4 then (S, (Int32.ofInt (-14)), []) else zv_do S u w T N)
def zs_kp (S : zS) (c : Nat) (w l : zBy) : zS := zs_F_ S (zf_kp_ (zs_F S) (fu (zf_kp (zs_F S)) c (some (w, l))))
def zq_say (S0 : zS) (c : Int32) : zS × Int32 := if zs_up S0 = false then (zs_tp S0 [], (Int32.ofInt (-9))) else if c < (Int32.ofNat 0) ∨ (Int32.ofNat 3) < c then (zs_tp S0 [], (Int32.ofInt (-1))) else if (zs_w S0).length < 2 then (zs_tp S0 [], (Int32.ofInt (-11)))
  else match (match zf_kp (zs_F S0) c.toNatClampNeg with | none => none | some (m, l) => if lf m 0 = lf (zs_w S0) 0 then some (m, l) else none) with
  | some (m, l) => if m = zs_w S0 then (zs_ou (zs_tp S0 []) l, (Int32.ofNat (l.length))) else (zs_ou (zs_tp S0 []) [lf (zs_w S0) 0, (Int32.ofNat 11)], (Int32.ofNat 2))
  | none => if (zv_act (zs_tp S0 []) (c.toNatClampNeg + 1) (zs_w S0)).2.1 = (Int32.ofInt (-12)) then ((zv_act (zs_tp S0 []) (c.toNatClampNeg + 1) (zs_w S0)).1, (Int32.ofInt (-12)))
    else if (zv_act (zs_tp S0 []) (c.toNatClampNeg + 1) (zs_w S0)).2.1 < (Int32.ofNat 0) then (zs_ou (zs_kp (zv_act (zs_tp S0 []) (c.toNatClampNeg + 1) (zs_w S0)).1 c.toNatClampNeg (zs_w S0) [lf (zs_w S0) 0, byt (- (zv_act (zs_tp S0 []) (c.toNatClampNeg + 1) (zs_w S0)).2.1)]) [lf (zs_w S0) 0, byt (- (zv_act (zs_tp S0 []) (c.toNatClampNeg + 1) (zs_w S0)).2.1)], (Int32.ofNat 2))
    else (zs_ou (zs_kp (zv_act (zs_tp S0 []) (c.toNatClampNeg + 1) (zs_w S0)).1 c.toNatClampNeg (zs_w S0) (lf (zs_w S0) 0 :: (Int32.ofNat 0) :: (zv_act (zs_tp S0 []) (c.toNatClampNeg + 1) (zs_w S0)).2.2)) (lf (zs_w S0) 0 :: (Int32.ofNat 0) :: (zv_act (zs_tp S0 []) (c.toNatClampNeg + 1) (zs_w S0)).2.2), (Int32.ofNat ((zv_act (zs_tp S0 []) (c.toNatClampNeg + 1) (zs_w S0)).2.2.length + 2)))
/-- commands to volumes -/
def zs_hd (S : zS) (n : Nat) : Option Nat := zf_ho (zs_F S) n
def zs_hd_ (S : zS) (n : Nat) (c : Option Nat) : zS := zs_F_ S (zf_ho_ (zs_F S) (fu (zf_ho (zs_F S)) n c))
def zq_com (S : zS) (w : zBy) (d : zD) (c : Nat) (op : Int32) (b : Nat) : zS × Int32 :=
  if op = (Int32.ofNat 4) then (zs_hd_ S (zd_no d) (some c), (Int32.ofNat 0)) else if op = (Int32.ofNat 5) then (if zs_hd S (zd_no d) = some c then (zs_hd_ S (zd_no d) none, (Int32.ofNat 1)) else (S, (Int32.ofNat 0)))
  else if op = (Int32.ofNat 0) ∨ op = (Int32.ofNat 2) then (if (zs_rds S [(b, zn_pt (zt_n (zd_tr d) 0) b)] (fun _ => (Int32.ofNat 0))).2.1 = (Int32.ofNat 0) then
      (if op = (Int32.ofNat 0) then (zs_ou (zs_rds S [(b, zn_pt (zt_n (zd_tr d) 0) b)] (fun _ => (Int32.ofNat 0))).1 (lm (zs_rds S [(b, zn_pt (zt_n (zd_tr d) 0) b)] (fun _ => (Int32.ofNat 0))).2.2 (32 * b) 32), (Int32.ofNat 32))
       else match ffi (fun k => !(decide ((zs_rds S [(b, zn_pt (zt_n (zd_tr d) 0) b)] (fun _ => (Int32.ofNat 0))).2.2 (32 * b + k) = lf w k))) 32 0 with
         | some k => ((zs_rds S [(b, zn_pt (zt_n (zd_tr d) 0) b)] (fun _ => (Int32.ofNat 0))).1, (Int32.ofNat k))
         | none => zs_fin (zs_perf (zs_rds S [(b, zn_pt (zt_n (zd_tr d) 0) b)] (fun _ => (Int32.ofNat 0))).1 d (zx_ch [11, b, 0, 0, 0, 0, zs_ck S, zs_ac S] 0 0 (w.drop 32))) (fun S => (S, (Int32.ofNat 32))))
    else ((zs_rds S [(b, zn_pt (zt_n (zd_tr d) 0) b)] (fun _ => (Int32.ofNat 0))).1, (zs_rds S [(b, zn_pt (zt_n (zd_tr d) 0) b)] (fun _ => (Int32.ofNat 0))).2.1))
  else zs_fin (zs_perf S d (zx_ch [11, b, 0, if op = (Int32.ofNat 3) then 1 else 0, 0, 0, zs_ck S, zs_ac S] 0 0 (if op = (Int32.ofNat 3) then [] else w))) (fun S => (S, (Int32.ofNat 0)))
def zq_command (S0 : zS) (s c op b : Int32) : zS × Int32 := if zs_up S0 = false then (zs_tp S0 [], (Int32.ofInt (-9))) else if (c < (Int32.ofNat 0) ∨ (Int32.ofNat 3) < c) ∨ (op < (Int32.ofNat 0) ∨ (Int32.ofNat 5) < op) then (zs_tp S0 [], (Int32.ofInt (-1)))
  else if (op = (Int32.ofNat 1) ∧ ¬ (zs_w S0).length = 32) ∨ (op = (Int32.ofNat 2) ∧ ¬ (zs_w S0).length = 64) then (zs_tp S0 [], (Int32.ofInt (-11))) else match zu_seti (zs_liv S0) s with
  | none => (zs_tp S0 [], (Int32.ofInt (-2)))
  | some d => if zd_ki d = 0 then (zs_tp S0 [], (Int32.ofInt (-10))) else if op < (Int32.ofNat 4) ∧ (b < (Int32.ofNat 0) ∨ ¬ b < (Int32.ofNat (zd_ki d))) then (zs_tp S0 [], (Int32.ofInt (-1)))
    else if (op = (Int32.ofNat 1) ∨ op = (Int32.ofNat 2) ∨ op = (Int32.ofNat 3)) ∧ zu_pr (zs_liv S0) d 3 = 1 then (zs_tp S0 [], (Int32.ofInt (-6)))
    else if (op = (Int32.ofNat 1) ∨ op = (Int32.ofNat 2) ∨ op = (Int32.ofNat 3) ∨ op = (Int32.ofNat 4)) ∧ (match zs_hd S0 (zd_no d) with | none => false | some x => !(decide (x = c.toNatClampNeg))) = true then (zs_tp S0 [], (Int32.ofInt (-5)))
    else zq_com (zs_tp S0 []) (zs_w S0) d c.toNatClampNeg op b.toNatClampNeg
/-- what is told -/
def zo_i (o : Option Nat) : Int32 := match o with
  | none => (Int32.ofInt (-2))
  | some n => (Int32.ofNat n)
def zq_about (S : zS) (kind i what : Int32) : zS × Int32 := (S, if kind < (Int32.ofNat 0) ∨ (Int32.ofNat 2) < kind then (Int32.ofInt (-1)) else if kind = (Int32.ofNat 0) then (match zp_d (zs_P S) i with
    | none => (Int32.ofInt (-2))
    | some d => if what = (Int32.ofNat 0) then (Int32.ofNat (zp_sec (zs_P S) d)) else if what = (Int32.ofNat 1) then bi (zp_here (zs_P S) d) else if what = (Int32.ofNat 2) then zo_i (zg_gof (zs_G S) d)
      else if what = (Int32.ofNat 3) then (Int32.ofNat (((List.range (zp_sec (zs_P S) d)).filter (zp_stale (zs_P S) d)).length)) else if what = (Int32.ofNat 4) then (Int32.ofNat (((List.range (zp_sec (zs_P S) d)).filter (zp_dead (zs_P S) d)).length)) else if what = (Int32.ofNat 5) then zp_wc (zs_P S) d else (Int32.ofInt (-2)))
  else if kind = (Int32.ofNat 1) then (match zs_gr S i with
    | none => (Int32.ofInt (-2))
    | some g => if what = (Int32.ofNat 0) then (Int32.ofNat (zg_ki (zs_G S) g)) else if what = (Int32.ofNat 1) then (Int32.ofNat (if zg_par (zs_G S) g then zg_chk (zs_G S) g else 0)) else if what = (Int32.ofNat 2) then (Int32.ofNat (zg_many (zs_G S) g)) else if what = (Int32.ofNat 3) then (Int32.ofNat (zg_pl (zs_G S) g))
      else if what = (Int32.ofNat 4) then (Int32.ofNat (zl_nf (zs_G S) (zs_us S) g)) else if what = (Int32.ofNat 5) then bi (zg_fit (zs_P S) (zs_G S) g) else if what = (Int32.ofNat 6) then (Int32.ofNat (zg_len (zs_G S) g))
      else if what < (Int32.ofNat 8) ∨ ¬ what - (Int32.ofNat 8) < (Int32.ofNat (zg_many (zs_G S) g)) then (Int32.ofInt (-2)) else (Int32.ofNat (zg_dsk (zs_G S) g (what - (Int32.ofNat 8)).toNatClampNeg)))
  else if i < (Int32.ofNat 0) then (Int32.ofInt (-2)) else (match (ze_heads (zs_E S))[i.toNatClampNeg]? with
    | none => (Int32.ofInt (-2))
    | some s => if what = (Int32.ofNat 0) then (Int32.ofNat (zu_no s)) else if what = (Int32.ofNat 1) then (Int32.ofNat ((zu_sets s).length)) else if what = (Int32.ofNat 2) then (Int32.ofNat ((zu_snaps s).length)) else (Int32.ofInt (-2))))
def zy_byte (n : Int64) (what : Int32) : Int32 := if what < (Int32.ofNat 3000) ∨ ¬ what < (Int32.ofNat (3000 + (zy_nb n).length)) then (Int32.ofInt (-2)) else lf (zy_nb n) (what.toNatClampNeg - 3000)
def zq_told (S : zS) (s what : Int32) : zS × Int32 := (S, if zs_up S = false then (Int32.ofInt (-2)) else match zu_seti (zs_liv S) s with
  | none => (Int32.ofInt (-2))
  | some d => if what = (Int32.ofNat 0) then (Int32.ofNat (zd_ki d)) else if what = (Int32.ofNat 1) then zo_i (zd_pa d) else if what = (Int32.ofNat 2) then zo_i (zd_og d) else if what = (Int32.ofNat 3) then (Int32.ofNat ((zd_sn d).length))
    else if ¬ what < (Int32.ofNat 4) ∧ what < (Int32.ofNat (4 + (zd_sn d).length)) then (Int32.ofNat ((zd_sn d).getD (what.toNatClampNeg - 4) 0)) else if ¬ what < (Int32.ofNat 1000) ∧ what < (Int32.ofNat 1005) then zo_i (zd_ow d (what.toNatClampNeg - 1000))
    else if ¬ what < (Int32.ofNat 2000) ∧ what < (Int32.ofNat 2009) then zd_qu d (what.toNatClampNeg - 2000) else zy_byte (zd_na d) what)
def zq_snapped (S : zS) (k what : Int32) : zS × Int32 := (S, if zs_up S = false then (Int32.ofInt (-2)) else match zu_snapi (zs_liv S) k with
  | none => (Int32.ofInt (-2))
  | some x => if what = (Int32.ofNat 0) then (Int32.ofNat (zk_se x)) else if what = (Int32.ofNat 1) then (match zu_set (zs_liv S) (zk_se x) with | none => (Int32.ofInt (-2)) | some d => (Int32.ofNat ((zd_sn d).idxOf (zk_no x)))) else if what = (Int32.ofNat 2) then (Int32.ofNat (zk_ho x)) else if what = (Int32.ofNat 3) then (Int32.ofNat (zk_sm x)) else if what = (Int32.ofNat 4) then (Int32.ofNat (zu_clones (zs_liv S) (zk_no x))) else zy_byte (zk_na x) what)
def zq_cache (S : zS) (what : Int32) : zS × Int32 := (S, if what < (Int32.ofNat 0) ∨ (Int32.ofNat 6) < what then (Int32.ofInt (-1)) else if what < (Int32.ofNat 4) then (Int32.ofNat (zc_n (zs_C S) what.toNatClampNeg)) else if what = (Int32.ofNat 4) then (Int32.ofNat (zc_aim (zs_C S))) else if what = (Int32.ofNat 5) then zc_hits (zs_C S) else zc_miss (zs_C S))
/-- how many blocks are used: places where a first copy begins -/
def zs_nu (S : zS) : Nat := ((List.range 1152).filter (fun p => (zs_us S).any (fun b => decide (384 * (zb_key b).1 + (zb_key b).2 = p)))).length
def zq_count (S : zS) (what : Int32) : zS × Int32 := (S, if what = (Int32.ofNat 0) then zp_writes (zs_P S) else if what = (Int32.ofNat 1) then zp_mended (zs_P S) else if what = (Int32.ofNat 2) then (Int32.ofNat (zm_ne (zs_M S))) else if what = (Int32.ofNat 3) then zm_dbl (zs_M S) else if what = (Int32.ofNat 4) then (Int32.ofNat (zm_starts (zs_M S)))
  else if what = (Int32.ofNat 5) then (Int32.ofNat (zs_nr S)) else if what = (Int32.ofNat 6) then (Int32.ofNat (zs_np S)) else if what = (Int32.ofNat 7) then (Int32.ofNat (zs_nu S)) else if what = (Int32.ofNat 8) then bi (zs_up S) else if what = (Int32.ofNat 9) then (Int32.ofNat ((zs_w S).length)) else if what = (Int32.ofNat 10) then (Int32.ofNat (zm_stamps (zs_M S))) else (Int32.ofInt (-1)))
def zq_error (S : zS) (k : Int32) : zS × Int32 := (S, if k < (Int32.ofNat 0) then (Int32.ofInt (-2)) else match (zm_er (zs_M S))[k.toNatClampNeg]? with
  | none => (Int32.ofInt (-2))
  | some v => v)
/-- the beginning -/
def zS_0 : zS := (([], [], 0, 0, fun _ => false), (0, fun _ => 0, fun _ => true, fun _ _ => 0, fun _ _ => false, fun _ _ => false, fun _ => 0, none, 0, 0, 0), (0, fun _ => false, fun _ => 0, fun _ => 0, fun _ => 0, fun _ _ => 0, fun _ => none), (false, false, ([], [], 1, 0, 0), []), (fun _ => [], fun _ _ => 0, 0, 0, 0), fun _ => ([], 0), (fun _ => none, fun _ => none, fun _ => none, fun _ => none), fun _ => ([], (0, none, 0, 0, [], 0)), ([], 0, 0, 0, 0, 0))
