/-! THE HOUSE AS IT IS, 4: calls about the tape, disks, the pool -/
def zq_b4 (v : Int32) : zBy := [byt (v >>> ((Int32.ofNat 24) &&& 31)), byt (v >>> ((Int32.ofNat 16) &&& 31)), byt (v >>> ((Int32.ofNat 8) &&& 31)), byt v]
def zs_tp (S : zS) (l : zBy) : zS := zs_A_ S (za_tape_ (zs_A S) l)
def zs_ou (S : zS) (l : zBy) : zS := zs_A_ S (za_out_ (zs_A S) l)
def zs_w (S : zS) : zBy := za_tape (zs_A S)
def zs_up (S : zS) : Bool := ze_up (zs_E S)
def zq_feed (S : zS) (a b c d : Int32) : zS × Int32 := if 320 < (zs_w S).length + 16 then (S, (Int32.ofInt (-3))) else (zs_tp S (zs_w S ++ (zq_b4 a ++ zq_b4 b ++ zq_b4 c ++ zq_b4 d)), (Int32.ofNat ((zs_w S).length + 16)))
def zq_end (S : zS) (n : Int32) : zS × Int32 := if n < (Int32.ofNat 0) ∨ (Int32.ofNat ((zs_w S).length)) < n then (S, (Int32.ofInt (-1))) else (zs_tp S ((zs_w S).take n.toNatClampNeg), n)
def zq_octet (S : zS) (i : Int32) : zS × Int32 := (S, if i = Int32.ofInt (-1) then (Int32.ofNat ((za_out (zs_A S)).length)) else if i < (Int32.ofNat 0) ∨ ¬ i < (Int32.ofNat ((za_out (zs_A S)).length)) then (Int32.ofInt (-2)) else lf (za_out (zs_A S)) i.toNatClampNeg &&& (Int32.ofNat 255))
def zo_tick (t : Nat) (o : zO) : zO := match zo_rec o with
  | none => o
  | some r => if r + 10 ≤ t then zo_lease_ (zo_rec_ o none) 0 else o
def zs_fl (S : zS) (f : Nat → Option zO) : zS := zs_F_ S (zf_fl_ (zs_F S) f)
def zs_fo (S : zS) : Nat → Option zO := zf_fl (zs_F S)
def zs_ck (S : zS) : Nat := za_clock (zs_A S)
def zs_ac (S : zS) : Nat := za_actor (zs_A S)
def zq_clock (S : zS) (n : Int32) : zS × Int32 := if n < (Int32.ofNat 0) ∨ (Int32.ofNat 1000) < n then (S, (Int32.ofInt (-1))) else
  (zs_fl (zs_A_ S (za_clock_ (zs_A S) (min 2000000000 (zs_ck S + n.toNatClampNeg)))) (fun f => (zs_fo S f).map (zo_tick (min 2000000000 (zs_ck S + n.toNatClampNeg)))), (Int32.ofNat (min 2000000000 (zs_ck S + n.toNatClampNeg))))
def zq_who (S : zS) (u : Int32) : zS × Int32 := if u < (Int32.ofNat 0) ∨ (Int32.ofNat 7) < u then (S, (Int32.ofInt (-1))) else (zs_A_ S (za_actor_ (zs_A S) u.toNatClampNeg), (Int32.ofNat (zs_ac S)))
def zq_member (S : zS) (u c : Int32) (on : Bool) : zS × Int32 := if (u < (Int32.ofNat 0) ∨ (Int32.ofNat 7) < u) ∨ (c < (Int32.ofNat 0) ∨ (Int32.ofNat 7) < c) then (S, (Int32.ofInt (-1))) else
  (zs_A_ S (za_cls_ (zs_A S) (fu (za_cls (zs_A S)) (8 * u.toNatClampNeg + c.toNatClampNeg) on)), if za_cls (zs_A S) (8 * u.toNatClampNeg + c.toNatClampNeg) = on then (Int32.ofNat 0) else (Int32.ofNat 1))
def zq_disk (S : zS) (n : Int32) : zS × Int32 := if n < (Int32.ofNat 8) ∨ (Int32.ofNat 64) < n then (S, (Int32.ofInt (-1))) else if zp_nd (zs_P S) = 8 then (S, (Int32.ofInt (-3))) else
  (zs_P_ S (zp_nd_ (zp_sec_ (zs_P S) (fu (zp_sec (zs_P S)) (zp_nd (zs_P S)) n.toNatClampNeg)) (zp_nd (zs_P S) + 1)), (Int32.ofNat (zp_nd (zs_P S))))
/-- the number of a disk -/
def zp_d (P : zP) (d : Int32) : Option Nat := if d < (Int32.ofNat 0) ∨ ¬ d < (Int32.ofNat (zp_nd P)) then none else some d.toNatClampNeg
def zp_s (P : zP) (d : Nat) (s : Int32) : Option Nat := if s < (Int32.ofNat 0) ∨ ¬ s < (Int32.ofNat (zp_sec P d)) then none else some s.toNatClampNeg
def zq_away (S : zS) (d : Int32) (on : Bool) : zS × Int32 := match zp_d (zs_P S) d with
  | none => (S, (Int32.ofInt (-1)))
  | some d => (zs_P_ S (zp_here_ (zs_P S) (fu (zp_here (zs_P S)) d (!on))), if zp_here (zs_P S) d = !on then (Int32.ofNat 0) else (Int32.ofNat 1))
def zq_dead (S : zS) (d s : Int32) : zS × Int32 := match zp_d (zs_P S) d with
  | none => (S, (Int32.ofInt (-1)))
  | some d => (match zp_s (zs_P S) d s with
    | none => (S, (Int32.ofInt (-1)))
    | some s => (zs_P_ S (zp_dead_ (zs_P S) (fu2 (zp_dead (zs_P S)) d s true)), if zp_dead (zs_P S) d s then (Int32.ofNat 0) else (Int32.ofNat 1)))
def zq_poke (S : zS) (d s i mask : Int32) : zS × Int32 := match zp_d (zs_P S) d with
  | none => (S, (Int32.ofInt (-1)))
  | some d => (match zp_s (zs_P S) d s with
    | none => (S, (Int32.ofInt (-1)))
    | some s => if (i < (Int32.ofNat 0) ∨ (Int32.ofNat 7) < i) ∨ (mask < (Int32.ofNat 0) ∨ (Int32.ofNat 255) < mask) then (S, (Int32.ofInt (-1))) else (zs_P_ S (zp_by_ (zs_P S) (fu2 (zp_by (zs_P S)) d (8 * s + i.toNatClampNeg) (byt (zp_by (zs_P S) d (8 * s + i.toNatClampNeg) ^^^ byt mask)))), (Int32.ofNat 0)))
def zq_power (S : zS) (n t : Int32) : zS × Int32 := if (n < Int32.ofInt (-1) ∨ (Int32.ofNat 4000) < n) ∨ (t < (Int32.ofNat 0) ∨ (Int32.ofNat 7) < t) then (S, (Int32.ofInt (-1))) else (zs_P_ S (zp_tear_ (zp_arm_ (zs_P S) (zi_n n)) t.toNatClampNeg), (Int32.ofNat 0))
/-- a layout is read: groups (parity, checks, disks), or the place where it is wrong -/
def zy_digits (P : zP) (w : zBy) : Nat → Nat → List Nat → List Nat → List Nat × Nat
  | 0, at', _, ds => (ds, at')
  | n + 1, at', nm, ds => match w[at']? with
    | none => (ds, at')
    | some c => if c < (Int32.ofNat 48) ∨ ¬ c < (Int32.ofNat (48 + zp_nd P)) ∨ zp_here P (c - (Int32.ofNat 48)).toNatClampNeg = false ∨ (c - (Int32.ofNat 48)).toNatClampNeg ∈ nm ++ ds then (ds, at') else zy_digits P w n (at' + 1) nm (ds ++ [(c - (Int32.ofNat 48)).toNatClampNeg])
def zy_read (P : zP) (w : zBy) : Nat → Nat → List Nat → List (Nat × List Nat) → List (Nat × List Nat) ⊕ Nat
  | 0, at', _, _ => .inr at'
  | n + 1, at', nm, gs =>
    if ¬ (lf w at' = (Int32.ofNat 112) ∨ lf w at' = (Int32.ofNat 109) ∨ lf w at' = (Int32.ofNat 120) ∨ lf w at' = (Int32.ofNat 121) ∨ lf w at' = (Int32.ofNat 122)) then .inr at'
    else if (zy_digits P w (if lf w at' = (Int32.ofNat 112) then 1 else if lf w at' = (Int32.ofNat 109) then 3 else 6) (at' + 1) nm []).1.length < (if lf w at' = (Int32.ofNat 112) then 1 else if lf w at' = (Int32.ofNat 109) then 2 else if lf w at' = (Int32.ofNat 120) then 2 else if lf w at' = (Int32.ofNat 121) then 3 else 4)
      then .inr (zy_digits P w (if lf w at' = (Int32.ofNat 112) then 1 else if lf w at' = (Int32.ofNat 109) then 3 else 6) (at' + 1) nm []).2
    else if (zy_digits P w (if lf w at' = (Int32.ofNat 112) then 1 else if lf w at' = (Int32.ofNat 109) then 3 else 6) (at' + 1) nm []).2 = w.length
      then .inl (gs ++ [(if lf w at' = (Int32.ofNat 120) then 1 else if lf w at' = (Int32.ofNat 121) then 2 else if lf w at' = (Int32.ofNat 122) then 3 else 0, (zy_digits P w (if lf w at' = (Int32.ofNat 112) then 1 else if lf w at' = (Int32.ofNat 109) then 3 else 6) (at' + 1) nm []).1)])
    else if ¬ lf w (zy_digits P w (if lf w at' = (Int32.ofNat 112) then 1 else if lf w at' = (Int32.ofNat 109) then 3 else 6) (at' + 1) nm []).2 = (Int32.ofNat 32) ∨ n = 0
      then .inr (zy_digits P w (if lf w at' = (Int32.ofNat 112) then 1 else if lf w at' = (Int32.ofNat 109) then 3 else 6) (at' + 1) nm []).2
    else zy_read P w n ((zy_digits P w (if lf w at' = (Int32.ofNat 112) then 1 else if lf w at' = (Int32.ofNat 109) then 3 else 6) (at' + 1) nm []).2 + 1) (nm ++ (zy_digits P w (if lf w at' = (Int32.ofNat 112) then 1 else if lf w at' = (Int32.ofNat 109) then 3 else 6) (at' + 1) nm []).1)
      (gs ++ [(if lf w at' = (Int32.ofNat 120) then 1 else if lf w at' = (Int32.ofNat 121) then 2 else if lf w at' = (Int32.ofNat 122) then 3 else 0, (zy_digits P w (if lf w at' = (Int32.ofNat 112) then 1 else if lf w at' = (Int32.ofNat 109) then 3 else 6) (at' + 1) nm []).1)])
def zy_G (P : zP) (l : List (Nat × List Nat)) : zG := (l.length, fun g => decide (0 < (l.getD g (0, [])).1), fun g => (l.getD g (0, [])).1, fun g => (l.getD g (0, [])).2.length, fun g => (l.getD g (0, [])).2.foldl (fun x d => min x (zp_sec P d)) 64, fun g x => (l.getD g (0, [])).2.getD x 0, fun d => (List.range l.length).find? (fun g => decide (d ∈ (l.getD g (0, [])).2)))
def zu_0 (clock : Nat) : zU := ([(0, none, 0, none, 0, fun _ => none, fun _ => Int32.ofInt (-1), [], zt_new 0 clock)], [], 1, 0, 0)
def zq_pool (S0 : zS) : zS × Int32 := if zs_up S0 then (zs_tp S0 [], (Int32.ofInt (-5))) else match zy_read (zs_P S0) (zs_w S0) 3 0 [] [] with
  | .inr p => (zs_tp S0 [], Int32.ofInt (-100) - (Int32.ofNat p))
  | .inl l => zs_turned (zs_M_ (zs_R_ (zs_E_ (zs_G_ (zs_P_ (zs_tp S0 []) (zp_stale_ (zs_P S0) (fun _ _ => false))) (zy_G (zs_P S0) l)) (true, true, zu_0 (zs_ck S0), [])) (fun _ => ([], 0))) (zm_spos_ (zs_M S0) 0)) (Int32.ofNat l.length)
def zs_gr (S : zS) (g : Int32) : Option Nat := if g < (Int32.ofNat 0) ∨ ¬ g < (Int32.ofNat (zg_ng (zs_G S))) then none else some g.toNatClampNeg
/-- a disk's sectors of a group become stale -/
def zp_ms (P : zP) (d n : Nat) : zP := zp_stale_ P (fun e s => if e = d ∧ s < n then true else zp_stale P e s)
def zq_attach (S : zS) (g d : Int32) : zS × Int32 := if zs_up S = false then (S, (Int32.ofInt (-9))) else match zs_gr S g, zp_d (zs_P S) d with
  | some g, some d => if zg_par (zs_G S) g then (S, (Int32.ofInt (-10))) else if zg_many (zs_G S) g = 3 then (S, (Int32.ofInt (-3)))
    else if zp_here (zs_P S) d = false ∨ (zg_gof (zs_G S) d).isSome ∨ zp_sec (zs_P S) d < zg_len (zs_G S) g then (S, (Int32.ofInt (-5)))
    else (zs_P_ (zs_G_ S (zg_gof_ (zg_many_ (zg_dsk_ (zs_G S) (fu2 (zg_dsk (zs_G S)) g (zg_many (zs_G S) g) d)) (fu (zg_many (zs_G S)) g (zg_many (zs_G S) g + 1))) (fu (zg_gof (zs_G S)) d (some g)))) (zp_ms (zs_P S) d (zg_len (zs_G S) g)), (Int32.ofNat (zg_many (zs_G S) g + 1)))
  | _, _ => (S, (Int32.ofInt (-1)))
def zs_us (S : zS) : List zB := zu_e (zs_E S)
def zq_detach (S : zS) (d : Int32) : zS × Int32 := if zs_up S = false then (S, (Int32.ofInt (-9))) else match zp_d (zs_P S) d with
  | none => (S, (Int32.ofInt (-1)))
  | some d => (match zg_gof (zs_G S) d with
    | none => (S, (Int32.ofInt (-10)))
    | some g => if ¬ zg_ki (zs_G S) g = 1 then (S, (Int32.ofInt (-10)))
      else if (List.range (zg_len (zs_G S) g)).any (fun a => zl_tk (zs_G S) (zs_us S) g a && (List.range (zg_many (zs_G S) g)).all (fun x => decide (zg_dsk (zs_G S) g x = d) || zp_mi (zs_P S) (zg_dsk (zs_G S) g x) a)) then (S, (Int32.ofInt (-5)))
      else (zs_G_ S (zg_gof_ (zg_many_ (zg_dsk_ (zs_G S) (fun h x => if h = g then (((List.range (zg_many (zs_G S) g)).map (zg_dsk (zs_G S) g)).filter (fun e => !(decide (e = d)))).getD x 0 else zg_dsk (zs_G S) h x)) (fu (zg_many (zs_G S)) g (zg_many (zs_G S) g - 1))) (fu (zg_gof (zs_G S)) d none)), (Int32.ofNat (zg_many (zs_G S) g - 1))))
def zq_replace (S : zS) (d e : Int32) : zS × Int32 := if zs_up S = false then (S, (Int32.ofInt (-9))) else match zp_d (zs_P S) d, zp_d (zs_P S) e with
  | some d, some e => (match zg_gof (zs_G S) d with
    | none => (S, (Int32.ofInt (-10)))
    | some g => if zp_here (zs_P S) e = false ∨ (zg_gof (zs_G S) e).isSome ∨ zp_sec (zs_P S) e < zg_len (zs_G S) g then (S, (Int32.ofInt (-5)))
      else (zs_P_ (zs_G_ S (zg_gof_ (zg_dsk_ (zs_G S) (fun h x => if h = g ∧ zg_dsk (zs_G S) g x = d then e else zg_dsk (zs_G S) h x)) (fu (fu (zg_gof (zs_G S)) e (some g)) d none))) (zp_ms (zs_P S) e (zg_len (zs_G S) g)), (Int32.ofNat g)))
  | _, _ => (S, (Int32.ofInt (-1)))
/-- the next copy from a position on: where it begins, its block -/
def zs_nx (S : zS) (q : Nat) : Option (Nat × zB) := match ffi (fun p => (zs_us S).any (fun b => (zb_cp b).any (fun c => decide (384 * c.1 + c.2 = p)))) (1152 - q) q with
  | none => none
  | some p => ((zs_us S).find? (fun b => (zb_cp b).any (fun c => decide (384 * c.1 + c.2 = p)))).map (fun b => (p, b))
def zs_scr : Nat → zS → Nat → Nat → zS × Int32 × Nat × Nat
  | 0, S, q, n => (S, (Int32.ofNat 0), q, n)
  | F + 1, S, q, n => match zs_nx S q with
    | none => (S, (Int32.ofNat 0), q, n)
    | some (p, b) => if (zs_fetch S b true).2.1 = (Int32.ofInt (-12)) then ((zs_fetch S b true).1, (Int32.ofInt (-12)), q, n) else zs_scr F (zs_fetch S b true).1 (p + 1) (n + 1)
def zq_scrub (S : zS) (n : Int32) : zS × Int32 := if zs_up S = false then (S, (Int32.ofInt (-9))) else if n < (Int32.ofNat 1) ∨ (Int32.ofNat 1000) < n then (S, (Int32.ofInt (-1)))
  else if (zs_scr n.toNatClampNeg S (zm_spos (zs_M S)) 0).2.1 = (Int32.ofInt (-12)) then ((zs_scr n.toNatClampNeg S (zm_spos (zs_M S)) 0).1, (Int32.ofInt (-12)))
  else (zs_M_ (zs_scr n.toNatClampNeg S (zm_spos (zs_M S)) 0).1 (zm_spos_ (zs_M (zs_scr n.toNatClampNeg S (zm_spos (zs_M S)) 0).1) (if (zs_scr n.toNatClampNeg S (zm_spos (zs_M S)) 0).2.2.2 < n.toNatClampNeg then 0 else (zs_scr n.toNatClampNeg S (zm_spos (zs_M S)) 0).2.2.1)), (Int32.ofNat ((zs_scr n.toNatClampNeg S (zm_spos (zs_M S)) 0).2.2.2)))
def zq_turn (S : zS) : zS × Int32 := if zs_up S = false then (S, (Int32.ofInt (-9))) else zs_turn S
def zq_stop (S : zS) : zS × Int32 := if zs_up S = false then (S, (Int32.ofInt (-9))) else if (zs_turn S).2 < (Int32.ofNat 0) then zs_turn S else (zs_fall (zs_turn S).1, (zs_turn S).2)
/-- promised changes of a set are done anew: those that were done, doubles; or CUT -/
def zx_redo (n : Nat) : zS → List zH → List zH → Nat → zS × Int32 × List zH × Nat
  | S, [], ds, m => (S, (Int32.ofNat 0), ds, m)
  | S, c :: r, ds, m => match zu_set (zs_liv S) n with
    | none => (S, (Int32.ofNat 0), ds, m)
    | some d => if (zx_do S d c false).2.1 = (Int32.ofInt (-12)) then ((zx_do S d c false).1, (Int32.ofInt (-12)), ds, m)
      else if (zx_do S d c false).2.1 < (Int32.ofNat 0) then zx_redo n (zs_set (zx_do S d c false).1) r ds m
      else zx_redo n (zs_set (zx_do S d c false).1) r (ds ++ [c]) (m + (zx_do S d c false).2.2)
/-- of all sets: the rows that are left -/
def zx_redos : zS → List Nat → (Nat → List zH × Nat) → Nat → zS × Int32 × (Nat → List zH × Nat) × Nat
  | S, [], rw, m => (S, (Int32.ofNat 0), rw, m)
  | S, n :: r, rw, m => if (zx_redo n S (zs_R S n).1 [] 0).2.1 = (Int32.ofInt (-12)) then ((zx_redo n S (zs_R S n).1 [] 0).1, (Int32.ofInt (-12)), rw, m)
    else zx_redos (zx_redo n S (zs_R S n).1 [] 0).1 r (fu rw n ((zx_redo n S (zs_R S n).1 [] 0).2.2.1, (zx_redo n S (zs_R S n).1 [] 0).2.2.1.length)) (m + (zx_redo n S (zs_R S n).1 [] 0).2.2.2)
def zs_begun (S : zS) (b : Nat) (s : zU) : zS := zs_E_ (if b = 0 then S else zs_R_ S (fun _ => ([], 0))) (ze_house (zs_E S), true, s, (ze_heads (zs_E S)).drop b)
def zq_start (S : zS) (back : Int32) : zS × Int32 := if back < (Int32.ofNat 0) ∨ (Int32.ofNat 2) < back then (S, (Int32.ofInt (-1))) else if ze_house (zs_E S) = false then (S, (Int32.ofInt (-2))) else if zs_up S then (S, (Int32.ofInt (-5)))
  else match (ze_heads (zs_E S))[back.toNatClampNeg]? with
  | none => (S, (Int32.ofInt (-2)))
  | some s => if (List.range (zg_ng (zs_G S))).any (fun g => !(zg_fit (zs_P S) (zs_G S) g)) then (S, (Int32.ofInt (-13)))
    else if (zx_redos (zs_begun S back.toNatClampNeg s) ((zu_sets s).map zd_no) (fun _ => ([], 0)) 0).2.1 = (Int32.ofInt (-12)) then ((zx_redos (zs_begun S back.toNatClampNeg s) ((zu_sets s).map zd_no) (fun _ => ([], 0)) 0).1, (Int32.ofInt (-12)))
    else zs_good (zs_M_ (zs_C_ (zs_R_ (zx_redos (zs_begun S back.toNatClampNeg s) ((zu_sets s).map zd_no) (fun _ => ([], 0)) 0).1 (zx_redos (zs_begun S back.toNatClampNeg s) ((zu_sets s).map zd_no) (fun _ => ([], 0)) 0).2.2.1)
      (zc_aim_ (zc_ls_ (zs_C (zx_redos (zs_begun S back.toNatClampNeg s) ((zu_sets s).map zd_no) (fun _ => ([], 0)) 0).1) (fun _ => [])) 0)) (zm_starts_ (zs_M (zx_redos (zs_begun S back.toNatClampNeg s) ((zu_sets s).map zd_no) (fun _ => ([], 0)) 0).1) (zm_starts (zs_M S) + 1))) (Int32.ofNat (zu_no s)) (zx_redos (zs_begun S back.toNatClampNeg s) ((zu_sets s).map zd_no) (fun _ => ([], 0)) 0).2.2.2
