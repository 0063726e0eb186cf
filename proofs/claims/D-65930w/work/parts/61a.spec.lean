/-! THE HOUSE AS IT IS, 1: plain values; disks, power, groups -/
abbrev zBy : Type := List Int32
def lf (l : zBy) : Nat → Int32 := fun i => l.getD i 0
def fu {α : Type} (f : Nat → α) (k : Nat) (v : α) : Nat → α := fun j => if j = k then v else f j
def fu2 {α : Type} (f : Nat → Nat → α) (k l : Nat) (v : α) : Nat → Nat → α := fun i j => if i = k ∧ j = l then v else f i j
/-- a block: coder, sectors, copies (group, place), sum, its bytes if it may be shared -/
abbrev zB : Type := Nat × Nat × (List (Nat × Nat)) × Int64 × (Option zBy)
def zb_co (s : zB) : Nat := s.1
def zb_k (s : zB) : Nat := s.2.1
def zb_cp (s : zB) : List (Nat × Nat) := s.2.2.1
def zb_su (s : zB) : Int64 := s.2.2.2.1
def zb_sh (s : zB) : Option zBy := s.2.2.2.2
def zb_co_ (s : zB) (v : Nat) : zB := (v, s.2.1, s.2.2.1, s.2.2.2.1, s.2.2.2.2)
def zb_k_ (s : zB) (v : Nat) : zB := (s.1, v, s.2.2.1, s.2.2.2.1, s.2.2.2.2)
def zb_cp_ (s : zB) (v : List (Nat × Nat)) : zB := (s.1, s.2.1, v, s.2.2.2.1, s.2.2.2.2)
def zb_su_ (s : zB) (v : Int64) : zB := (s.1, s.2.1, s.2.2.1, v, s.2.2.2.2)
def zb_sh_ (s : zB) (v : Option zBy) : zB := (s.1, s.2.1, s.2.2.1, s.2.2.2.1, v)
def zb_key (b : zB) : Nat × Nat := (zb_cp b).headD (0, 0)
/-- an object: attributes 0 to 7 (kind, mode, owner, class, names, size, time, age), rows of rights (kind, who, mask), entries by order of names, parent, path, pointers -/
abbrev zN : Type := (Nat → Nat) × (List (Nat × Nat × Nat)) × (List (Int64 × Nat)) × Nat × zBy × (Nat → Option zB)
def zn_at (s : zN) : Nat → Nat := s.1
def zn_rw (s : zN) : List (Nat × Nat × Nat) := s.2.1
def zn_en (s : zN) : List (Int64 × Nat) := s.2.2.1
def zn_pa (s : zN) : Nat := s.2.2.2.1
def zn_ph (s : zN) : zBy := s.2.2.2.2.1
def zn_pt (s : zN) : Nat → Option zB := s.2.2.2.2.2
def zn_at_ (s : zN) (v : Nat → Nat) : zN := (v, s.2.1, s.2.2.1, s.2.2.2.1, s.2.2.2.2.1, s.2.2.2.2.2)
def zn_rw_ (s : zN) (v : List (Nat × Nat × Nat)) : zN := (s.1, v, s.2.2.1, s.2.2.2.1, s.2.2.2.2.1, s.2.2.2.2.2)
def zn_en_ (s : zN) (v : List (Int64 × Nat)) : zN := (s.1, s.2.1, v, s.2.2.2.1, s.2.2.2.2.1, s.2.2.2.2.2)
def zn_pa_ (s : zN) (v : Nat) : zN := (s.1, s.2.1, s.2.2.1, v, s.2.2.2.2.1, s.2.2.2.2.2)
def zn_ph_ (s : zN) (v : zBy) : zN := (s.1, s.2.1, s.2.2.1, s.2.2.2.1, v, s.2.2.2.2.2)
def zn_pt_ (s : zN) (v : Nat → Option zB) : zN := (s.1, s.2.1, s.2.2.1, s.2.2.2.1, s.2.2.2.2.1, v)
abbrev zT : Type := Nat × (Nat → Option zN)
def zt_ma (s : zT) : Nat := s.1
def zt_ob (s : zT) : Nat → Option zN := s.2
def zt_ma_ (s : zT) (v : Nat) : zT := (v, s.2)
def zt_ob_ (s : zT) (v : Nat → Option zN) : zT := (s.1, v)
/-- a set: number, parent, kind, origin, name, own properties, quotas, its snapshots in order, tree -/
abbrev zD : Type := Nat × (Option Nat) × Nat × (Option Nat) × Int64 × (Nat → Option Nat) × (Nat → Int32) × (List Nat) × zT
def zd_no (s : zD) : Nat := s.1
def zd_pa (s : zD) : Option Nat := s.2.1
def zd_ki (s : zD) : Nat := s.2.2.1
def zd_og (s : zD) : Option Nat := s.2.2.2.1
def zd_na (s : zD) : Int64 := s.2.2.2.2.1
def zd_ow (s : zD) : Nat → Option Nat := s.2.2.2.2.2.1
def zd_qu (s : zD) : Nat → Int32 := s.2.2.2.2.2.2.1
def zd_sn (s : zD) : List Nat := s.2.2.2.2.2.2.2.1
def zd_tr (s : zD) : zT := s.2.2.2.2.2.2.2.2
def zd_no_ (s : zD) (v : Nat) : zD := (v, s.2.1, s.2.2.1, s.2.2.2.1, s.2.2.2.2.1, s.2.2.2.2.2.1, s.2.2.2.2.2.2.1, s.2.2.2.2.2.2.2.1, s.2.2.2.2.2.2.2.2)
def zd_pa_ (s : zD) (v : Option Nat) : zD := (s.1, v, s.2.2.1, s.2.2.2.1, s.2.2.2.2.1, s.2.2.2.2.2.1, s.2.2.2.2.2.2.1, s.2.2.2.2.2.2.2.1, s.2.2.2.2.2.2.2.2)
def zd_ki_ (s : zD) (v : Nat) : zD := (s.1, s.2.1, v, s.2.2.2.1, s.2.2.2.2.1, s.2.2.2.2.2.1, s.2.2.2.2.2.2.1, s.2.2.2.2.2.2.2.1, s.2.2.2.2.2.2.2.2)
def zd_og_ (s : zD) (v : Option Nat) : zD := (s.1, s.2.1, s.2.2.1, v, s.2.2.2.2.1, s.2.2.2.2.2.1, s.2.2.2.2.2.2.1, s.2.2.2.2.2.2.2.1, s.2.2.2.2.2.2.2.2)
def zd_na_ (s : zD) (v : Int64) : zD := (s.1, s.2.1, s.2.2.1, s.2.2.2.1, v, s.2.2.2.2.2.1, s.2.2.2.2.2.2.1, s.2.2.2.2.2.2.2.1, s.2.2.2.2.2.2.2.2)
def zd_ow_ (s : zD) (v : Nat → Option Nat) : zD := (s.1, s.2.1, s.2.2.1, s.2.2.2.1, s.2.2.2.2.1, v, s.2.2.2.2.2.2.1, s.2.2.2.2.2.2.2.1, s.2.2.2.2.2.2.2.2)
def zd_qu_ (s : zD) (v : Nat → Int32) : zD := (s.1, s.2.1, s.2.2.1, s.2.2.2.1, s.2.2.2.2.1, s.2.2.2.2.2.1, v, s.2.2.2.2.2.2.2.1, s.2.2.2.2.2.2.2.2)
def zd_sn_ (s : zD) (v : List Nat) : zD := (s.1, s.2.1, s.2.2.1, s.2.2.2.1, s.2.2.2.2.1, s.2.2.2.2.2.1, s.2.2.2.2.2.2.1, v, s.2.2.2.2.2.2.2.2)
def zd_tr_ (s : zD) (v : zT) : zD := (s.1, s.2.1, s.2.2.1, s.2.2.2.1, s.2.2.2.2.1, s.2.2.2.2.2.1, s.2.2.2.2.2.2.1, s.2.2.2.2.2.2.2.1, v)
abbrev zK : Type := Nat × Nat × Nat × Nat × Int64 × zT
def zk_no (s : zK) : Nat := s.1
def zk_se (s : zK) : Nat := s.2.1
def zk_ho (s : zK) : Nat := s.2.2.1
def zk_sm (s : zK) : Nat := s.2.2.2.1
def zk_na (s : zK) : Int64 := s.2.2.2.2.1
def zk_tr (s : zK) : zT := s.2.2.2.2.2
def zk_no_ (s : zK) (v : Nat) : zK := (v, s.2.1, s.2.2.1, s.2.2.2.1, s.2.2.2.2.1, s.2.2.2.2.2)
def zk_se_ (s : zK) (v : Nat) : zK := (s.1, v, s.2.2.1, s.2.2.2.1, s.2.2.2.2.1, s.2.2.2.2.2)
def zk_ho_ (s : zK) (v : Nat) : zK := (s.1, s.2.1, v, s.2.2.2.1, s.2.2.2.2.1, s.2.2.2.2.2)
def zk_sm_ (s : zK) (v : Nat) : zK := (s.1, s.2.1, s.2.2.1, v, s.2.2.2.2.1, s.2.2.2.2.2)
def zk_na_ (s : zK) (v : Int64) : zK := (s.1, s.2.1, s.2.2.1, s.2.2.2.1, v, s.2.2.2.2.2)
def zk_tr_ (s : zK) (v : zT) : zK := (s.1, s.2.1, s.2.2.1, s.2.2.2.1, s.2.2.2.2.1, v)
abbrev zU : Type := (List zD) × (List zK) × Nat × Nat × Nat
def zu_sets (s : zU) : List zD := s.1
def zu_snaps (s : zU) : List zK := s.2.1
def zu_ns (s : zU) : Nat := s.2.2.1
def zu_nk (s : zU) : Nat := s.2.2.2.1
def zu_no (s : zU) : Nat := s.2.2.2.2
def zu_sets_ (s : zU) (v : List zD) : zU := (v, s.2.1, s.2.2.1, s.2.2.2.1, s.2.2.2.2)
def zu_snaps_ (s : zU) (v : List zK) : zU := (s.1, v, s.2.2.1, s.2.2.2.1, s.2.2.2.2)
def zu_ns_ (s : zU) (v : Nat) : zU := (s.1, s.2.1, v, s.2.2.2.1, s.2.2.2.2)
def zu_nk_ (s : zU) (v : Nat) : zU := (s.1, s.2.1, s.2.2.1, v, s.2.2.2.2)
def zu_no_ (s : zU) (v : Nat) : zU := (s.1, s.2.1, s.2.2.1, s.2.2.2.1, v)
/-- a change: 0 op, 1 a, 2 b, 3 x, 4 y, 5 z, 6 time, 7 who; two names; bytes -/
abbrev zH : Type := (Nat → Nat) × Int64 × Int64 × zBy
def zh_f (s : zH) : Nat → Nat := s.1
def zh_n1 (s : zH) : Int64 := s.2.1
def zh_n2 (s : zH) : Int64 := s.2.2.1
def zh_by (s : zH) : zBy := s.2.2.2
def zh_f_ (s : zH) (v : Nat → Nat) : zH := (v, s.2.1, s.2.2.1, s.2.2.2)
def zh_n1_ (s : zH) (v : Int64) : zH := (s.1, v, s.2.2.1, s.2.2.2)
def zh_n2_ (s : zH) (v : Int64) : zH := (s.1, s.2.1, v, s.2.2.2)
def zh_by_ (s : zH) (v : zBy) : zH := (s.1, s.2.1, s.2.2.1, v)
/-- the tape, what is answered, the clock, the actor, classes -/
abbrev zA : Type := zBy × zBy × Nat × Nat × (Nat → Bool)
def za_tape (s : zA) : zBy := s.1
def za_out (s : zA) : zBy := s.2.1
def za_clock (s : zA) : Nat := s.2.2.1
def za_actor (s : zA) : Nat := s.2.2.2.1
def za_cls (s : zA) : Nat → Bool := s.2.2.2.2
def za_tape_ (s : zA) (v : zBy) : zA := (v, s.2.1, s.2.2.1, s.2.2.2.1, s.2.2.2.2)
def za_out_ (s : zA) (v : zBy) : zA := (s.1, v, s.2.2.1, s.2.2.2.1, s.2.2.2.2)
def za_clock_ (s : zA) (v : Nat) : zA := (s.1, s.2.1, v, s.2.2.2.1, s.2.2.2.2)
def za_actor_ (s : zA) (v : Nat) : zA := (s.1, s.2.1, s.2.2.1, v, s.2.2.2.2)
def za_cls_ (s : zA) (v : Nat → Bool) : zA := (s.1, s.2.1, s.2.2.1, s.2.2.2.1, v)
/-- disks and power -/
abbrev zP : Type := Nat × (Nat → Nat) × (Nat → Bool) × (Nat → Nat → Int32) × (Nat → Nat → Bool) × (Nat → Nat → Bool) × (Nat → Int32) × (Option Nat) × Nat × Int32 × Int32
def zp_nd (s : zP) : Nat := s.1
def zp_sec (s : zP) : Nat → Nat := s.2.1
def zp_here (s : zP) : Nat → Bool := s.2.2.1
def zp_by (s : zP) : Nat → Nat → Int32 := s.2.2.2.1
def zp_dead (s : zP) : Nat → Nat → Bool := s.2.2.2.2.1
def zp_stale (s : zP) : Nat → Nat → Bool := s.2.2.2.2.2.1
def zp_wc (s : zP) : Nat → Int32 := s.2.2.2.2.2.2.1
def zp_arm (s : zP) : Option Nat := s.2.2.2.2.2.2.2.1
def zp_tear (s : zP) : Nat := s.2.2.2.2.2.2.2.2.1
def zp_writes (s : zP) : Int32 := s.2.2.2.2.2.2.2.2.2.1
def zp_mended (s : zP) : Int32 := s.2.2.2.2.2.2.2.2.2.2
def zp_nd_ (s : zP) (v : Nat) : zP := (v, s.2.1, s.2.2.1, s.2.2.2.1, s.2.2.2.2.1, s.2.2.2.2.2.1, s.2.2.2.2.2.2.1, s.2.2.2.2.2.2.2.1, s.2.2.2.2.2.2.2.2.1, s.2.2.2.2.2.2.2.2.2.1, s.2.2.2.2.2.2.2.2.2.2)
def zp_sec_ (s : zP) (v : Nat → Nat) : zP := (s.1, v, s.2.2.1, s.2.2.2.1, s.2.2.2.2.1, s.2.2.2.2.2.1, s.2.2.2.2.2.2.1, s.2.2.2.2.2.2.2.1, s.2.2.2.2.2.2.2.2.1, s.2.2.2.2.2.2.2.2.2.1, s.2.2.2.2.2.2.2.2.2.2)
def zp_here_ (s : zP) (v : Nat → Bool) : zP := (s.1, s.2.1, v, s.2.2.2.1, s.2.2.2.2.1, s.2.2.2.2.2.1, s.2.2.2.2.2.2.1, s.2.2.2.2.2.2.2.1, s.2.2.2.2.2.2.2.2.1, s.2.2.2.2.2.2.2.2.2.1, s.2.2.2.2.2.2.2.2.2.2)
def zp_by_ (s : zP) (v : Nat → Nat → Int32) : zP := (s.1, s.2.1, s.2.2.1, v, s.2.2.2.2.1, s.2.2.2.2.2.1, s.2.2.2.2.2.2.1, s.2.2.2.2.2.2.2.1, s.2.2.2.2.2.2.2.2.1, s.2.2.2.2.2.2.2.2.2.1, s.2.2.2.2.2.2.2.2.2.2)
def zp_dead_ (s : zP) (v : Nat → Nat → Bool) : zP := (s.1, s.2.1, s.2.2.1, s.2.2.2.1, v, s.2.2.2.2.2.1, s.2.2.2.2.2.2.1, s.2.2.2.2.2.2.2.1, s.2.2.2.2.2.2.2.2.1, s.2.2.2.2.2.2.2.2.2.1, s.2.2.2.2.2.2.2.2.2.2)
def zp_stale_ (s : zP) (v : Nat → Nat → Bool) : zP := (s.1, s.2.1, s.2.2.1, s.2.2.2.1, s.2.2.2.2.1, v, s.2.2.2.2.2.2.1, s.2.2.2.2.2.2.2.1, s.2.2.2.2.2.2.2.2.1, s.2.2.2.2.2.2.2.2.2.1, s.2.2.2.2.2.2.2.2.2.2)
def zp_wc_ (s : zP) (v : Nat → Int32) : zP := (s.1, s.2.1, s.2.2.1, s.2.2.2.1, s.2.2.2.2.1, s.2.2.2.2.2.1, v, s.2.2.2.2.2.2.2.1, s.2.2.2.2.2.2.2.2.1, s.2.2.2.2.2.2.2.2.2.1, s.2.2.2.2.2.2.2.2.2.2)
def zp_arm_ (s : zP) (v : Option Nat) : zP := (s.1, s.2.1, s.2.2.1, s.2.2.2.1, s.2.2.2.2.1, s.2.2.2.2.2.1, s.2.2.2.2.2.2.1, v, s.2.2.2.2.2.2.2.2.1, s.2.2.2.2.2.2.2.2.2.1, s.2.2.2.2.2.2.2.2.2.2)
def zp_tear_ (s : zP) (v : Nat) : zP := (s.1, s.2.1, s.2.2.1, s.2.2.2.1, s.2.2.2.2.1, s.2.2.2.2.2.1, s.2.2.2.2.2.2.1, s.2.2.2.2.2.2.2.1, v, s.2.2.2.2.2.2.2.2.2.1, s.2.2.2.2.2.2.2.2.2.2)
def zp_writes_ (s : zP) (v : Int32) : zP := (s.1, s.2.1, s.2.2.1, s.2.2.2.1, s.2.2.2.2.1, s.2.2.2.2.2.1, s.2.2.2.2.2.2.1, s.2.2.2.2.2.2.2.1, s.2.2.2.2.2.2.2.2.1, v, s.2.2.2.2.2.2.2.2.2.2)
def zp_mended_ (s : zP) (v : Int32) : zP := (s.1, s.2.1, s.2.2.1, s.2.2.2.1, s.2.2.2.2.1, s.2.2.2.2.2.1, s.2.2.2.2.2.2.1, s.2.2.2.2.2.2.2.1, s.2.2.2.2.2.2.2.2.1, s.2.2.2.2.2.2.2.2.2.1, v)
/-- groups: how many; parity or not, checks, disks, length, the disks, the group of a disk -/
abbrev zG : Type := Nat × (Nat → Bool) × (Nat → Nat) × (Nat → Nat) × (Nat → Nat) × (Nat → Nat → Nat) × (Nat → Option Nat)
def zg_ng (s : zG) : Nat := s.1
def zg_par (s : zG) : Nat → Bool := s.2.1
def zg_chk (s : zG) : Nat → Nat := s.2.2.1
def zg_many (s : zG) : Nat → Nat := s.2.2.2.1
def zg_len (s : zG) : Nat → Nat := s.2.2.2.2.1
def zg_dsk (s : zG) : Nat → Nat → Nat := s.2.2.2.2.2.1
def zg_gof (s : zG) : Nat → Option Nat := s.2.2.2.2.2.2
def zg_ng_ (s : zG) (v : Nat) : zG := (v, s.2.1, s.2.2.1, s.2.2.2.1, s.2.2.2.2.1, s.2.2.2.2.2.1, s.2.2.2.2.2.2)
def zg_par_ (s : zG) (v : Nat → Bool) : zG := (s.1, v, s.2.2.1, s.2.2.2.1, s.2.2.2.2.1, s.2.2.2.2.2.1, s.2.2.2.2.2.2)
def zg_chk_ (s : zG) (v : Nat → Nat) : zG := (s.1, s.2.1, v, s.2.2.2.1, s.2.2.2.2.1, s.2.2.2.2.2.1, s.2.2.2.2.2.2)
def zg_many_ (s : zG) (v : Nat → Nat) : zG := (s.1, s.2.1, s.2.2.1, v, s.2.2.2.2.1, s.2.2.2.2.2.1, s.2.2.2.2.2.2)
def zg_len_ (s : zG) (v : Nat → Nat) : zG := (s.1, s.2.1, s.2.2.1, s.2.2.2.1, v, s.2.2.2.2.2.1, s.2.2.2.2.2.2)
def zg_dsk_ (s : zG) (v : Nat → Nat → Nat) : zG := (s.1, s.2.1, s.2.2.1, s.2.2.2.1, s.2.2.2.2.1, v, s.2.2.2.2.2.2)
def zg_gof_ (s : zG) (v : Nat → Option Nat) : zG := (s.1, s.2.1, s.2.2.1, s.2.2.2.1, s.2.2.2.2.1, s.2.2.2.2.2.1, v)
/-- the house: whether there is one, whether it is up, the living state, heads (the latest first) -/
abbrev zE : Type := Bool × Bool × zU × (List zU)
def ze_house (s : zE) : Bool := s.1
def ze_up (s : zE) : Bool := s.2.1
def ze_liv (s : zE) : zU := s.2.2.1
def ze_heads (s : zE) : List zU := s.2.2.2
def ze_house_ (s : zE) (v : Bool) : zE := (v, s.2.1, s.2.2.1, s.2.2.2)
def ze_up_ (s : zE) (v : Bool) : zE := (s.1, v, s.2.2.1, s.2.2.2)
def ze_liv_ (s : zE) (v : zU) : zE := (s.1, s.2.1, v, s.2.2.2)
def ze_heads_ (s : zE) (v : List zU) : zE := (s.1, s.2.1, s.2.2.1, v)
/-- the cache: lists 0 to 3, the oldest first; bytes held of a block; aim, hits, misses -/
abbrev zC : Type := (Nat → List zB) × (Nat × Nat → Nat → Int32) × Nat × Int32 × Int32
def zc_ls (s : zC) : Nat → List zB := s.1
def zc_hd (s : zC) : Nat × Nat → Nat → Int32 := s.2.1
def zc_aim (s : zC) : Nat := s.2.2.1
def zc_hits (s : zC) : Int32 := s.2.2.2.1
def zc_miss (s : zC) : Int32 := s.2.2.2.2
def zc_ls_ (s : zC) (v : Nat → List zB) : zC := (v, s.2.1, s.2.2.1, s.2.2.2.1, s.2.2.2.2)
def zc_hd_ (s : zC) (v : Nat × Nat → Nat → Int32) : zC := (s.1, v, s.2.2.1, s.2.2.2.1, s.2.2.2.2)
def zc_aim_ (s : zC) (v : Nat) : zC := (s.1, s.2.1, v, s.2.2.2.1, s.2.2.2.2)
def zc_hits_ (s : zC) (v : Int32) : zC := (s.1, s.2.1, s.2.2.1, v, s.2.2.2.2)
def zc_miss_ (s : zC) (v : Int32) : zC := (s.1, s.2.1, s.2.2.1, s.2.2.2.1, v)
/-- an open file: tree, object, flags, place, lease, when recalled, locks by byte (1000 for all behind) -/
abbrev zO : Type := Nat × Nat × Nat × Nat × Nat × (Option Nat) × (Nat → Nat)
def zo_tree (s : zO) : Nat := s.1
def zo_obj (s : zO) : Nat := s.2.1
def zo_flags (s : zO) : Nat := s.2.2.1
def zo_place (s : zO) : Nat := s.2.2.2.1
def zo_lease (s : zO) : Nat := s.2.2.2.2.1
def zo_rec (s : zO) : Option Nat := s.2.2.2.2.2.1
def zo_lk (s : zO) : Nat → Nat := s.2.2.2.2.2.2
def zo_tree_ (s : zO) (v : Nat) : zO := (v, s.2.1, s.2.2.1, s.2.2.2.1, s.2.2.2.2.1, s.2.2.2.2.2.1, s.2.2.2.2.2.2)
def zo_obj_ (s : zO) (v : Nat) : zO := (s.1, v, s.2.2.1, s.2.2.2.1, s.2.2.2.2.1, s.2.2.2.2.2.1, s.2.2.2.2.2.2)
def zo_flags_ (s : zO) (v : Nat) : zO := (s.1, s.2.1, v, s.2.2.2.1, s.2.2.2.2.1, s.2.2.2.2.2.1, s.2.2.2.2.2.2)
def zo_place_ (s : zO) (v : Nat) : zO := (s.1, s.2.1, s.2.2.1, v, s.2.2.2.2.1, s.2.2.2.2.2.1, s.2.2.2.2.2.2)
def zo_lease_ (s : zO) (v : Nat) : zO := (s.1, s.2.1, s.2.2.1, s.2.2.2.1, v, s.2.2.2.2.2.1, s.2.2.2.2.2.2)
def zo_rec_ (s : zO) (v : Option Nat) : zO := (s.1, s.2.1, s.2.2.1, s.2.2.2.1, s.2.2.2.2.1, v, s.2.2.2.2.2.2)
def zo_lk_ (s : zO) (v : Nat → Nat) : zO := (s.1, s.2.1, s.2.2.1, s.2.2.2.1, s.2.2.2.2.1, s.2.2.2.2.2.1, v)
abbrev zW : Type := Nat × Nat × (List Int32) × Bool
def zw_set (s : zW) : Nat := s.1
def zw_folder (s : zW) : Nat := s.2.1
def zw_rows (s : zW) : List Int32 := s.2.2.1
def zw_losing (s : zW) : Bool := s.2.2.2
def zw_set_ (s : zW) (v : Nat) : zW := (v, s.2.1, s.2.2.1, s.2.2.2)
def zw_folder_ (s : zW) (v : Nat) : zW := (s.1, v, s.2.2.1, s.2.2.2)
def zw_rows_ (s : zW) (v : List Int32) : zW := (s.1, s.2.1, v, s.2.2.2)
def zw_losing_ (s : zW) (v : Bool) : zW := (s.1, s.2.1, s.2.2.1, v)
/-- open files, watches, kept messages and answers by client, who holds a volume -/
abbrev zF : Type := (Nat → Option zO) × (Nat → Option zW) × (Nat → Option (zBy × zBy)) × (Nat → Option Nat)
def zf_fl (s : zF) : Nat → Option zO := s.1
def zf_wt (s : zF) : Nat → Option zW := s.2.1
def zf_kp (s : zF) : Nat → Option (zBy × zBy) := s.2.2.1
def zf_ho (s : zF) : Nat → Option Nat := s.2.2.2
def zf_fl_ (s : zF) (v : Nat → Option zO) : zF := (v, s.2.1, s.2.2.1, s.2.2.2)
def zf_wt_ (s : zF) (v : Nat → Option zW) : zF := (s.1, v, s.2.2.1, s.2.2.2)
def zf_kp_ (s : zF) (v : Nat → Option (zBy × zBy)) : zF := (s.1, s.2.1, v, s.2.2.2)
def zf_ho_ (s : zF) (v : Nat → Option Nat) : zF := (s.1, s.2.1, s.2.2.1, v)
/-- errors (the latest first), how many; doubles, starts, stamps, where scrubbing goes on -/
abbrev zM : Type := (List Int32) × Nat × Int32 × Nat × Nat × Nat
def zm_er (s : zM) : List Int32 := s.1
def zm_ne (s : zM) : Nat := s.2.1
def zm_dbl (s : zM) : Int32 := s.2.2.1
def zm_starts (s : zM) : Nat := s.2.2.2.1
def zm_stamps (s : zM) : Nat := s.2.2.2.2.1
def zm_spos (s : zM) : Nat := s.2.2.2.2.2
def zm_er_ (s : zM) (v : List Int32) : zM := (v, s.2.1, s.2.2.1, s.2.2.2.1, s.2.2.2.2.1, s.2.2.2.2.2)
def zm_ne_ (s : zM) (v : Nat) : zM := (s.1, v, s.2.2.1, s.2.2.2.1, s.2.2.2.2.1, s.2.2.2.2.2)
def zm_dbl_ (s : zM) (v : Int32) : zM := (s.1, s.2.1, v, s.2.2.2.1, s.2.2.2.2.1, s.2.2.2.2.2)
def zm_starts_ (s : zM) (v : Nat) : zM := (s.1, s.2.1, s.2.2.1, v, s.2.2.2.2.1, s.2.2.2.2.2)
def zm_stamps_ (s : zM) (v : Nat) : zM := (s.1, s.2.1, s.2.2.1, s.2.2.2.1, v, s.2.2.2.2.2)
def zm_spos_ (s : zM) (v : Nat) : zM := (s.1, s.2.1, s.2.2.1, s.2.2.2.1, s.2.2.2.2.1, v)
/-- what a stream says of an object (1: it is so; 2: bytes of a block; 3: a hole; 4: it is gone): tag, object, block, object's value, bytes -/
abbrev zI : Type := Nat × Nat × Nat × zN × zBy
def zi_tag (s : zI) : Nat := s.1
def zi_o (s : zI) : Nat := s.2.1
def zi_k (s : zI) : Nat := s.2.2.1
def zi_nd (s : zI) : zN := s.2.2.2.1
def zi_by (s : zI) : zBy := s.2.2.2.2
def zi_tag_ (s : zI) (v : Nat) : zI := (v, s.2.1, s.2.2.1, s.2.2.2.1, s.2.2.2.2)
def zi_o_ (s : zI) (v : Nat) : zI := (s.1, v, s.2.2.1, s.2.2.2.1, s.2.2.2.2)
def zi_k_ (s : zI) (v : Nat) : zI := (s.1, s.2.1, v, s.2.2.2.1, s.2.2.2.2)
def zi_nd_ (s : zI) (v : zN) : zI := (s.1, s.2.1, s.2.2.1, v, s.2.2.2.2)
def zi_by_ (s : zI) (v : zBy) : zI := (s.1, s.2.1, s.2.2.1, s.2.2.2.1, v)
/-- a stream: kind, stamp of the earlier one, stamp, name, what it says, made -/
abbrev zV : Type := Nat × (Option Nat) × Nat × Int64 × (List zI) × Nat
def zv_ki (s : zV) : Nat := s.1
def zv_fr (s : zV) : Option Nat := s.2.1
def zv_sm (s : zV) : Nat := s.2.2.1
def zv_na (s : zV) : Int64 := s.2.2.2.1
def zv_it (s : zV) : List zI := s.2.2.2.2.1
def zv_ma (s : zV) : Nat := s.2.2.2.2.2
def zv_ki_ (s : zV) (v : Nat) : zV := (v, s.2.1, s.2.2.1, s.2.2.2.1, s.2.2.2.2.1, s.2.2.2.2.2)
def zv_fr_ (s : zV) (v : Option Nat) : zV := (s.1, v, s.2.2.1, s.2.2.2.1, s.2.2.2.2.1, s.2.2.2.2.2)
def zv_sm_ (s : zV) (v : Nat) : zV := (s.1, s.2.1, v, s.2.2.2.1, s.2.2.2.2.1, s.2.2.2.2.2)
def zv_na_ (s : zV) (v : Int64) : zV := (s.1, s.2.1, s.2.2.1, v, s.2.2.2.2.1, s.2.2.2.2.2)
def zv_it_ (s : zV) (v : List zI) : zV := (s.1, s.2.1, s.2.2.1, s.2.2.2.1, v, s.2.2.2.2.2)
def zv_ma_ (s : zV) (v : Nat) : zV := (s.1, s.2.1, s.2.2.1, s.2.2.2.1, s.2.2.2.2.1, v)
/-- all; streams: the bytes as they are, what was sent -/
abbrev zS : Type := zA × zP × zG × zE × zC × (Nat → List zH × Nat) × zF × (Nat → zBy × zV) × zM
def zs_A (s : zS) : zA := s.1
def zs_P (s : zS) : zP := s.2.1
def zs_G (s : zS) : zG := s.2.2.1
def zs_E (s : zS) : zE := s.2.2.2.1
def zs_C (s : zS) : zC := s.2.2.2.2.1
def zs_R (s : zS) : Nat → List zH × Nat := s.2.2.2.2.2.1
def zs_F (s : zS) : zF := s.2.2.2.2.2.2.1
def zs_X (s : zS) : Nat → zBy × zV := s.2.2.2.2.2.2.2.1
def zs_M (s : zS) : zM := s.2.2.2.2.2.2.2.2
def zs_A_ (s : zS) (v : zA) : zS := (v, s.2.1, s.2.2.1, s.2.2.2.1, s.2.2.2.2.1, s.2.2.2.2.2.1, s.2.2.2.2.2.2.1, s.2.2.2.2.2.2.2.1, s.2.2.2.2.2.2.2.2)
def zs_P_ (s : zS) (v : zP) : zS := (s.1, v, s.2.2.1, s.2.2.2.1, s.2.2.2.2.1, s.2.2.2.2.2.1, s.2.2.2.2.2.2.1, s.2.2.2.2.2.2.2.1, s.2.2.2.2.2.2.2.2)
def zs_G_ (s : zS) (v : zG) : zS := (s.1, s.2.1, v, s.2.2.2.1, s.2.2.2.2.1, s.2.2.2.2.2.1, s.2.2.2.2.2.2.1, s.2.2.2.2.2.2.2.1, s.2.2.2.2.2.2.2.2)
def zs_E_ (s : zS) (v : zE) : zS := (s.1, s.2.1, s.2.2.1, v, s.2.2.2.2.1, s.2.2.2.2.2.1, s.2.2.2.2.2.2.1, s.2.2.2.2.2.2.2.1, s.2.2.2.2.2.2.2.2)
def zs_C_ (s : zS) (v : zC) : zS := (s.1, s.2.1, s.2.2.1, s.2.2.2.1, v, s.2.2.2.2.2.1, s.2.2.2.2.2.2.1, s.2.2.2.2.2.2.2.1, s.2.2.2.2.2.2.2.2)
def zs_R_ (s : zS) (v : Nat → List zH × Nat) : zS := (s.1, s.2.1, s.2.2.1, s.2.2.2.1, s.2.2.2.2.1, v, s.2.2.2.2.2.2.1, s.2.2.2.2.2.2.2.1, s.2.2.2.2.2.2.2.2)
def zs_F_ (s : zS) (v : zF) : zS := (s.1, s.2.1, s.2.2.1, s.2.2.2.1, s.2.2.2.2.1, s.2.2.2.2.2.1, v, s.2.2.2.2.2.2.2.1, s.2.2.2.2.2.2.2.2)
def zs_X_ (s : zS) (v : Nat → zBy × zV) : zS := (s.1, s.2.1, s.2.2.1, s.2.2.2.1, s.2.2.2.2.1, s.2.2.2.2.2.1, s.2.2.2.2.2.2.1, v, s.2.2.2.2.2.2.2.2)
def zs_M_ (s : zS) (v : zM) : zS := (s.1, s.2.1, s.2.2.1, s.2.2.2.1, s.2.2.2.2.1, s.2.2.2.2.2.1, s.2.2.2.2.2.2.1, s.2.2.2.2.2.2.2.1, v)
/-- bytes of a sector are written, n of them -/
def zp_put (P : zP) (d s n : Nat) (f : Nat → Int32) : zP := zp_by_ P (fun e j => if e = d ∧ 8 * s ≤ j ∧ j < 8 * s + n then f (j - 8 * s) else zp_by P e j)
/-- one more least write -/
def zp_wrote (P : zP) : zP := zp_writes_ (zp_arm_ P ((zp_arm P).map (fun n => n - 1))) (zp_writes P + (Int32.ofNat 1))
/-- a sector is written; false when power fails there -/
def zp_wr (P : zP) (d s : Nat) (f : Nat → Int32) : zP × Bool :=
  if zp_here P d = false then (zp_stale_ P (fu2 (zp_stale P) d s true), true)
  else if zp_arm P = some 0 then (zp_arm_ (zp_put P d s (zp_tear P) f) none, false)
  else (zp_wrote (zp_wc_ (zp_stale_ (zp_dead_ (zp_put P d s 8 f) (fu2 (zp_dead P) d s false)) (fu2 (zp_stale P) d s false)) (fu (zp_wc P) d (zp_wc P d + (Int32.ofNat 1)))), true)
/-- sectors are written in a row -/
def zp_lay : zP → List (Nat × Nat × (Nat → Int32)) → zP × Bool
  | P, [] => (P, true)
  | P, w :: r => if (zp_wr P w.1 w.2.1 w.2.2).2 then zp_lay (zp_wr P w.1 w.2.1 w.2.2).1 r else ((zp_wr P w.1 w.2.1 w.2.2).1, false)
/-- whether a sector is as it must be -/
def zp_ri (P : zP) (d s : Nat) (f : Nat → Int32) : Bool := !(zp_dead P d s) && !(zp_stale P d s) && (List.range 8).all (fun i => decide (zp_by P d (8 * s + i) = f i))
/-- of sectors in a row those that are not as they must be are written -/
def zp_men : zP → List (Nat × Nat × (Nat → Int32)) → zP × Bool
  | P, [] => (P, true)
  | P, w :: r => if zp_here P w.1 = false ∨ zp_ri P w.1 w.2.1 w.2.2 = true then zp_men P r
    else if (zp_wr P w.1 w.2.1 w.2.2).2 then zp_men (zp_mended_ (zp_wr P w.1 w.2.1 w.2.2).1 (zp_mended (zp_wr P w.1 w.2.1 w.2.2).1 + (Int32.ofNat 1))) r else ((zp_wr P w.1 w.2.1 w.2.2).1, false)
def zp_mi (P : zP) (d s : Nat) : Bool := !(zp_here P d) || zp_dead P d s || zp_stale P d s
def zg_pl (G : zG) (g : Nat) : Nat := if zg_par G g then zg_many G g * zg_len G g else zg_len G g
def zg_ki (G : zG) (g : Nat) : Nat := if zg_par G g then 2 else if zg_many G g = 1 then 0 else 1
def zg_aw (P : zP) (G : zG) (g : Nat) : Nat := ((List.range (zg_many G g)).filter (fun x => !(zp_here P (zg_dsk G g x)))).length
def zg_fit (P : zP) (G : zG) (g : Nat) : Bool := if zg_par G g then decide (zg_aw P G g ≤ zg_chk G g) else decide (zg_aw P G g < zg_many G g)
def zg_sp (G : zG) (g k : Nat) : Nat := if zg_par G g then k + zg_chk G g * ((k + (zg_many G g - zg_chk G g) - 1) / (zg_many G g - zg_chk G g)) else k
/-- a check's byte over r data -/
def zi_c (j : Nat) (v : Nat → Nat) : Nat → Nat
  | 0 => 0
  | r + 1 => zi_c j v r ^^^ gt (pw (j * r)) (v r)
/-- byte i of sector j of a copy: m checks ahead of each w data -/
def zi_x (m w k : Nat) (f : Nat → Int32) (j i : Nat) : Int32 :=
  if j % (m + w) < m then byt (Int32.ofNat (zi_c (j % (m + w)) (fun e => vz (f (8 * (j / (m + w) * w + e) + i))) (min w (k - j / (m + w) * w))))
  else f (8 * (j / (m + w) * w + (j % (m + w) - m)) + i)
/-- the sectors of a copy at a place: disk, sector, bytes -/
def zg_wl (G : zG) (g p k : Nat) (f : Nat → Int32) : List (Nat × Nat × (Nat → Int32)) :=
  if zg_par G g then (List.range (zg_sp G g k)).map (fun j => (zg_dsk G g ((p + j) % zg_many G g), (p + j) / zg_many G g, zi_x (zg_chk G g) (zg_many G g - zg_chk G g) k f j))
  else (List.range (zg_many G g)).flatMap (fun x => (List.range k).map (fun j => (zg_dsk G g x, p + j, fun i => f (8 * j + i))))
/-- copies of a block are written: all, or what is not right -/
def zp_cps (lay : zP → List (Nat × Nat × (Nat → Int32)) → zP × Bool) (G : zG) (k : Nat) (f : Nat → Int32) : zP → List (Nat × Nat) → zP × Bool
  | P, [] => (P, true)
  | P, c :: r => if (lay P (zg_wl G c.1 c.2 k f)).2 then zp_cps lay G k f (lay P (zg_wl G c.1 c.2 k f)).1 r else ((lay P (zg_wl G c.1 c.2 k f)).1, false)
