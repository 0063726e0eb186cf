/-! STAGE 3, 4: what a frame keeps of the twin's picture -/
/-- arrays O and fields F are as they were -/
def tsm (m : Nat) (O F : Nat → Bool) (h h' : hh_T) : Prop := (∀ o, O o = true → ¬ o = 0 → hh_i h' (m + o) = hh_i h (m + o)) ∧ (∀ f, F f = true → hh_i h' m f = hh_i h m f) ∧ hh_j h' (m + 25) = hh_j h (m + 25)
theorem fr.sm {m : Nat} {O F : List Nat} {h h' : hh_T} (g : fr (tO m O F) h h') {P R : Nat → Bool} (hO : (O.all fun o => !(P o)) = true) (hF : (F.all fun f => !(R f)) = true) : tsm m P R h h' := by
  refine ⟨fun o ho h0 => g.arrs hO ho h0, fun f hf => g.fld ?_, by rw [g.jj]⟩
  cases q : F.contains f with
  | false => rfl
  | true =>
    have := List.all_eq_true.mp hF f (by simpa using q)
    rw [hf] at this
    cases this
def oE (o : Nat) : Bool := [17, 19, 20, 21, 22, 23, 24, 26].contains o || (Nat.ble 40 o && Nat.ble o 79)
def fE (f : Nat) : Bool := [76, 77, 99, 100].contains f
def f0 (_ : Nat) : Bool := false
section KE
variable {h h' : hh_T} {m : Nat} {F : Nat → Bool}
theorem tb.sm {p : Nat} {b : zB} (g : tsm m oE F h h') (R : tb h m p b) : tb h' m p b := by
  have a19 := g.1 19 rfl (by decide)
  have a20 := g.1 20 rfl (by decide)
  have a21 := g.1 21 rfl (by decide)
  have a22 := g.1 22 rfl (by decide)
  have a23 := g.1 23 rfl (by decide)
  have a24 := g.1 24 rfl (by decide)
  have a26 := g.1 26 rfl (by decide)
  have j := g.2.2
  unfold tb at R ⊢
  simp only [a19, a20, a21, a22, a23, a24, a26, j]
  exact R
theorem tw_en.sm {r : Nat} {e : Int64 × Nat} (g : tsm m oE F h h') (R : tw_en h m r e) : tw_en h' m r e := by
  have a53 := g.1 53 rfl (by decide)
  have a54 := g.1 54 rfl (by decide)
  have a56 := g.1 56 rfl (by decide)
  unfold tw_en at R ⊢
  simp only [a53, a54, a56]
  exact R
theorem tn.sm {q : Nat} {N : zN} (g : tsm m oE F h h') (R : tn h m q N) : tn h' m q N := by
  have a48 := g.1 48 rfl (by decide)
  have a49 := g.1 49 rfl (by decide)
  have a50 := g.1 50 rfl (by decide)
  have a51 := g.1 51 rfl (by decide)
  have a52 := g.1 52 rfl (by decide)
  have a55 := g.1 55 rfl (by decide)
  have a57 := g.1 57 rfl (by decide)
  have b : ∀ f, f < 8 → hh_i h' (m + (40 + f)) = hh_i h (m + (40 + f)) := fun f hf => g.1 _ (by unfold oE; rw [Bool.or_eq_true, Bool.and_eq_true]; exact Or.inr ⟨Nat.ble_eq.mpr (by omega), Nat.ble_eq.mpr (by omega)⟩) (by omega)
  obtain ⟨r1, r2, r3, r4, r5, r6, r7, r8, r9, r10, r11, r12⟩ := R
  refine ⟨fun f hf => by rw [b f hf]; exact r1 f hf, r2, r3, r4, r5, r6, by rw [a49]; exact r7, r8, by simp only [a50, a51, a52]; exact r9, fun k => ?_, by simp only [a57]; exact r11, fun k hk => ?_⟩
  · obtain ⟨s1, s2, s3, s4, s5, s6⟩ := r10 k
    refine ⟨by rw [a48]; exact s1, s2, s3, s4, fun j hj => ?_, fun e he => ?_⟩
    · obtain ⟨e, z1, z2⟩ := s5 j hj
      exact ⟨e, z1, z2.sm g⟩
    · obtain ⟨j, z1, z2⟩ := s6 e he
      exact ⟨j, z1, z2.sm g⟩
  · rw [a55]
    rcases r12 k hk with z | ⟨b, p, z1, z2, z3, z4, z5⟩
    · exact Or.inl z
    · exact Or.inr ⟨b, p, z1, z2, z3, z4.sm g, z5⟩
theorem tt.sm {t : Nat} {T : zT} (g : tsm m oE F h h') (R : tt h m t T) : tt h' m t T := by
  have a40 := g.1 40 rfl (by decide)
  have a58 := g.1 58 rfl (by decide)
  obtain ⟨r1, r2, r3, r4⟩ := R
  refine ⟨r1, by rw [a58]; exact r2, r3, fun o ho => ?_⟩
  rw [a40]
  rcases r4 o ho with z | ⟨N, z1, z2⟩
  · exact Or.inl z
  · exact Or.inr ⟨N, z1, z2.sm g⟩
theorem td.sm {i : Nat} {d : zD} (g : tsm m oE F h h') (R : td h m i d) : td h' m i d := by
  have a59 := g.1 59 rfl (by decide)
  have a60 := g.1 60 rfl (by decide)
  have a61 := g.1 61 rfl (by decide)
  have a62 := g.1 62 rfl (by decide)
  have a63 := g.1 63 rfl (by decide)
  have a64 := g.1 64 rfl (by decide)
  have a65 := g.1 65 rfl (by decide)
  have a66 := g.1 66 rfl (by decide)
  have a67 := g.1 67 rfl (by decide)
  obtain ⟨r1, r2, r3, r4, r5, r6, r7, r8, ⟨t, r9, r10⟩, r11, r12, r13⟩ := R
  unfold td tnm
  simp only [a59, a60, a61, a62, a63, a64, a65, a66, a67]
  exact ⟨r1, r2, r3, r4, r5, r6, r7, r8, ⟨t, r9, r10.sm g⟩, r11, r12, r13⟩
theorem tk.sm {i pl : Nat} {k : zK} (g : tsm m oE F h h') (R : tk h m i k pl) : tk h' m i k pl := by
  have a68 := g.1 68 rfl (by decide)
  have a69 := g.1 69 rfl (by decide)
  have a70 := g.1 70 rfl (by decide)
  have a71 := g.1 71 rfl (by decide)
  have a72 := g.1 72 rfl (by decide)
  have a73 := g.1 73 rfl (by decide)
  have a74 := g.1 74 rfl (by decide)
  have a75 := g.1 75 rfl (by decide)
  obtain ⟨r1, r2, r3, r4, r5, r6, r7, r8, r9, ⟨t, r10, r11⟩, r12⟩ := R
  unfold tk tnm
  simp only [a68, a69, a70, a71, a72, a73, a74, a75]
  exact ⟨r1, r2, r3, r4, r5, r6, r7, r8, r9, ⟨t, r10, r11.sm g⟩, r12⟩
theorem tu.sm {j : Nat} {s : zU} (g : tsm m oE F h h') (R : tu h m j s) : tu h' m j s := by
  have a59 := g.1 59 rfl (by decide)
  have a69 := g.1 69 rfl (by decide)
  have a76 := g.1 76 rfl (by decide)
  have a77 := g.1 77 rfl (by decide)
  obtain ⟨r1, r2, r3, r4, r5⟩ := R
  unfold tu
  simp only [a59, a69, a76, a77]
  refine ⟨fun k hk => ?_, fun d hd => ?_, fun k hk => ?_, fun x hx => ?_, r5⟩
  · rcases r1 k hk with z | ⟨d, z1, z2⟩
    · exact Or.inl z
    · exact Or.inr ⟨d, z1, z2.sm g⟩
  · obtain ⟨k, z1, z2⟩ := r2 d hd
    exact ⟨k, z1, z2.sm g⟩
  · rcases r3 k hk with z | ⟨d, z1, z2⟩
    · exact Or.inl z
    · exact Or.inr ⟨d, z1, z2.sm g⟩
  · obtain ⟨k, z1, z2⟩ := r4 x hx
    exact ⟨k, z1, z2.sm g⟩
theorem rT_E.sm {E : zE} (g : tsm m oE fE h h') (R : rT_E h m E) : rT_E h' m E := by
  have a17 := g.1 17 rfl (by decide)
  have a23 := g.1 23 rfl (by decide)
  have a24 := g.1 24 rfl (by decide)
  have a40 := g.1 40 rfl (by decide)
  have a55 := g.1 55 rfl (by decide)
  have a59 := g.1 59 rfl (by decide)
  have a63 := g.1 63 rfl (by decide)
  have a69 := g.1 69 rfl (by decide)
  have a74 := g.1 74 rfl (by decide)
  have a78 := g.1 78 rfl (by decide)
  have a79 := g.1 79 rfl (by decide)
  have f76 := g.2.1 76 rfl
  have f77 := g.2.1 77 rfl
  have f99 := g.2.1 99 rfl
  have f100 := g.2.1 100 rfl
  obtain ⟨r1, r2, r3, r4, r5, r6, r7, r8, r9⟩ := R
  unfold rT_E tw_us tw_sl tw_st
  simp only [a17, a23, a24, a40, a55, a59, a63, a69, a74, a78, a79, f76, f77, f99, f100]
  refine ⟨r1, r2, fun z => ⟨(r3 z).1.sm g, (r3 z).2⟩, r4, r5, fun k s hs => ?_, r7, r8, r9⟩
  obtain ⟨j, z1, z2, z3, z4, z5, z6⟩ := r6 k s hs
  exact ⟨j, z1, z2, z3, z4, z5, z6.sm g⟩
end KE
section KF
variable {h h' : hh_T} {m : Nat} {O F : List Nat}
def oA (o : Nat) : Bool := [1, 2, 3].contains o
def fA (o : Nat) : Bool := [2, 3, 4, 5].contains o
def oP (o : Nat) : Bool := [4, 6, 7, 8, 9, 10].contains o
def fP (o : Nat) : Bool := [7, 15, 16, 17, 18].contains o
theorem rT_P.fr {P : zP} (R : rT_P h m P) (g0 : fr (tO m O F) h h') (hO : (O.all fun o => !(oP o)) = true) (hF : (F.all fun f => !(fP f)) = true) : rT_P h' m P := by
  have g := g0.sm hO hF
  have a4 := g.1 4 rfl (by decide)
  have a6 := g.1 6 rfl (by decide)
  have a7 := g.1 7 rfl (by decide)
  have a8 := g.1 8 rfl (by decide)
  have a9 := g.1 9 rfl (by decide)
  have a10 := g.1 10 rfl (by decide)
  unfold rT_P
  simp only [a4, a6, a7, a8, a9, a10, g.2.1 7 rfl, g.2.1 15 rfl, g.2.1 16 rfl, g.2.1 17 rfl, g.2.1 18 rfl]
  exact R
def oG (o : Nat) : Bool := [5, 11, 12, 13, 14, 15].contains o
def fG (o : Nat) : Bool := [19].contains o
theorem rT_G.fr {G : zG} (R : rT_G h m G) (g0 : fr (tO m O F) h h') (hO : (O.all fun o => !(oG o)) = true) (hF : (F.all fun f => !(fG f)) = true) : rT_G h' m G := by
  have g := g0.sm hO hF
  have a5 := g.1 5 rfl (by decide)
  have a11 := g.1 11 rfl (by decide)
  have a12 := g.1 12 rfl (by decide)
  have a13 := g.1 13 rfl (by decide)
  have a14 := g.1 14 rfl (by decide)
  have a15 := g.1 15 rfl (by decide)
  unfold rT_G
  simp only [a5, a11, a12, a13, a14, a15, g.2.1 19 rfl]
  exact R
theorem rT_E.fr {E : zE} (R : rT_E h m E) (g0 : fr (tO m O F) h h') (hO : (O.all fun o => !(oE o)) = true) (hF : (F.all fun f => !(fE f)) = true) : rT_E h' m E := R.sm (g0.sm hO hF)
def oC (o : Nat) : Bool := oE o || [32, 33, 36].contains o
def fC (o : Nat) : Bool := [46, 47, 48, 77, 99].contains o
theorem tw_uN.sm {p : Nat} {F : Nat → Bool} (g : tsm m oE F h h') (h1 : F 77 = true) (h2 : F 99 = true) (q : tw_uN h m p) : tw_uN h' m p := by
  unfold tw_uN tw_us tw_sl tw_st at q ⊢
  simp only [g.1 40 rfl (by decide), g.1 55 rfl (by decide), g.1 59 rfl (by decide), g.1 63 rfl (by decide), g.1 69 rfl (by decide), g.1 74 rfl (by decide), g.1 78 rfl (by decide), g.2.1 77 h1, g.2.1 99 h2]
  exact q
theorem rT_C.fr {C : zC} (R : rT_C h m C) (g0 : fr (tO m O F) h h') (hO : (O.all fun o => !(oC o)) = true) (hF : (F.all fun f => !(fC f)) = true) : rT_C h' m C := by
  have g := g0.sm hO hF
  have gE : tsm m oE fC h h' := ⟨fun o ho => g.1 o (by unfold oC; rw [ho]; rfl), g.2⟩
  have a32 := g.1 32 rfl (by decide)
  have a33 := g.1 33 rfl (by decide)
  have a36 := g.1 36 rfl (by decide)
  unfold rT_C rL rL1
  simp only [a32, a33, a36, g.2.1 46 rfl, g.2.1 47 rfl, g.2.1 48 rfl]
  obtain ⟨⟨I, f, q1, q2, q3⟩, q4⟩ := R
  refine ⟨⟨I, f, q1, q2, fun l p hl hp => ?_⟩, q4⟩
  obtain ⟨z1, z2, z3, z4⟩ := q3 l p hl hp
  exact ⟨z1, z2.sm gE, z3.sm gE rfl rfl, z4⟩
def oR (o : Nat) : Bool := [59, 78, 80, 81, 82].contains o
theorem rT_R.fr {E : zE} {R0 : Nat → List zH × Nat} (R : rT_R h m E R0) (g0 : fr (tO m O F) h h') (hO : (O.all fun o => !(oR o)) = true) : rT_R h' m E R0 := by
  have g := g0.sm (R := f0) hO (by simp [f0])
  have a59 := g.1 59 rfl (by decide)
  have a78 := g.1 78 rfl (by decide)
  have a80 := g.1 80 rfl (by decide)
  have a81 := g.1 81 rfl (by decide)
  have a82 := g.1 82 rfl (by decide)
  unfold rT_R tw_lg
  simp only [a59, a78, a80, a81, a82]
  exact R
def oF (o : Nat) : Bool := Nat.beq o 59 || (Nat.ble 88 o && Nat.ble o 102) || (Nat.ble 116 o && Nat.ble o 120)
theorem tw_of.sm {f : Nat} {x : Option zO} {Fb : Nat → Bool} (g : tsm m oF Fb h h') (R : tw_of h m f x) : tw_of h' m f x := by
  cases x with
  | none => unfold tw_of at R ⊢; simp only [g.1 88 rfl (by decide)]; exact R
  | some o =>
    unfold tw_of at R ⊢
    simp only [g.1 88 rfl (by decide), g.1 89 rfl (by decide), g.1 90 rfl (by decide), g.1 91 rfl (by decide), g.1 92 rfl (by decide), g.1 93 rfl (by decide), g.1 94 rfl (by decide), g.1 95 rfl (by decide), g.1 96 rfl (by decide)]
    exact R
theorem tw_wa.sm {f : Nat} {x : Option zW} {Fb : Nat → Bool} (g : tsm m oF Fb h h') (R : tw_wa h m f x) : tw_wa h' m f x := by
  cases x with
  | none => unfold tw_wa at R ⊢; simp only [g.1 97 rfl (by decide)]; exact R
  | some o =>
    unfold tw_wa at R ⊢
    simp only [g.1 97 rfl (by decide), g.1 98 rfl (by decide), g.1 99 rfl (by decide), g.1 100 rfl (by decide), g.1 101 rfl (by decide), g.1 102 rfl (by decide)]
    exact R
theorem tw_kp.sm {f : Nat} {x : Option (zBy × zBy)} {Fb : Nat → Bool} (g : tsm m oF Fb h h') (R : tw_kp h m f x) : tw_kp h' m f x := by
  cases x with
  | none => unfold tw_kp at R ⊢; simp only [g.1 117 rfl (by decide)]; exact R
  | some o =>
    unfold tw_kp at R ⊢
    simp only [g.1 117 rfl (by decide), g.1 118 rfl (by decide), g.1 119 rfl (by decide), g.1 120 rfl (by decide)]
    exact R
theorem rT_F.fr {X : zF} (R : rT_F h m X) (g0 : fr (tO m O F) h h') (hO : (O.all fun o => !(oF o)) = true) : rT_F h' m X := by
  have g := g0.sm (R := f0) hO (by simp [f0])
  refine ⟨fun f hf => (R.1 f hf).sm g, fun f hf => (R.2.1 f hf).sm g, fun f hf => (R.2.2.1 f hf).sm g, ?_⟩
  rw [g.1 116 rfl (by decide), g.1 59 rfl (by decide)]
  exact R.2.2.2
def oX (o : Nat) : Bool := [112, 113, 115].contains o
theorem rT_X.fr {X : Nat → zBy × zV} (R : rT_X h m X) (g0 : fr (tO m O F) h h') (hO : (O.all fun o => !(oX o)) = true) : rT_X h' m X := by
  have g := g0.sm (R := f0) hO (by simp [f0])
  unfold rT_X
  simp only [g.1 112 rfl (by decide), g.1 113 rfl (by decide), g.1 115 rfl (by decide)]
  exact R
def oM (o : Nat) : Bool := [34].contains o
def fM (o : Nat) : Bool := [49, 42, 102, 101, 139].contains o
theorem rT_M.fr {M : zM} (R : rT_M h m M) (g0 : fr (tO m O F) h h') (hO : (O.all fun o => !(oM o)) = true) (hF : (F.all fun f => !(fM f)) = true) : rT_M h' m M := by
  have g := g0.sm hO hF
  unfold rT_M
  simp only [g.1 34 rfl (by decide), g.2.1 49 rfl, g.2.1 42 rfl, g.2.1 102 rfl, g.2.1 101 rfl, g.2.1 139 rfl]
  exact R
/-- only the tape's part changes -/
theorem rT.oA {S : zS} {A : zA} (R : rT h m S) (g : fr (tO m [1, 2, 3] [2, 3, 4, 5]) h h') (N : rT_A h' m A) : rT h' m (zs_A_ S A) := by
  obtain ⟨r0, r1, r2, r3, r4, r5, r6, r7, r8, r9, r10, r11, r12⟩ := R
  exact ⟨r0.fr g, N, r2.fr g rfl rfl, r3.fr g rfl rfl, r4.fr g rfl rfl, r5.fr g rfl rfl, r6.fr g rfl, r7.fr g rfl, r8.fr g rfl, r9.fr g rfl rfl, by rw [g.fld rfl]; exact r10, by rw [g.fld rfl]; exact r11, by rw [g.fld rfl]; exact r12⟩
theorem rT.oP {S : zS} {P : zP} (R : rT h m S) (g : fr (tO m [4, 6, 7, 8, 9, 10] [7, 15, 16, 17, 18]) h h') (N : rT_P h' m P) : rT h' m (zs_P_ S P) := by
  obtain ⟨r0, r1, r2, r3, r4, r5, r6, r7, r8, r9, r10, r11, r12⟩ := R
  exact ⟨r0.fr g, r1.fr g rfl rfl, N, r3.fr g rfl rfl, r4.fr g rfl rfl, r5.fr g rfl rfl, r6.fr g rfl, r7.fr g rfl, r8.fr g rfl, r9.fr g rfl rfl, by rw [g.fld rfl]; exact r10, by rw [g.fld rfl]; exact r11, by rw [g.fld rfl]; exact r12⟩
theorem rT.oG {S : zS} {G : zG} (R : rT h m S) (g : fr (tO m [5, 11, 12, 13, 14, 15] [19]) h h') (N : rT_G h' m G) : rT h' m (zs_G_ S G) := by
  obtain ⟨r0, r1, r2, r3, r4, r5, r6, r7, r8, r9, r10, r11, r12⟩ := R
  exact ⟨r0.fr g, r1.fr g rfl rfl, r2.fr g rfl rfl, N, r4.fr g rfl rfl, r5.fr g rfl rfl, r6.fr g rfl, r7.fr g rfl, r8.fr g rfl, r9.fr g rfl rfl, by rw [g.fld rfl]; exact r10, by rw [g.fld rfl]; exact r11, by rw [g.fld rfl]; exact r12⟩
theorem rT.oF {S : zS} {X : zF} (R : rT h m S) (g : fr (tO m [88, 89, 90, 91, 92, 93, 94, 95, 96, 97, 98, 99, 100, 101, 102, 116, 117, 118, 119, 120] []) h h') (N : rT_F h' m X) : rT h' m (zs_F_ S X) := by
  obtain ⟨r0, r1, r2, r3, r4, r5, r6, r7, r8, r9, r10, r11, r12⟩ := R
  exact ⟨r0.fr g, r1.fr g rfl rfl, r2.fr g rfl rfl, r3.fr g rfl rfl, r4.fr g rfl rfl, r5.fr g rfl rfl, r6.fr g rfl, N, r8.fr g rfl, r9.fr g rfl rfl, by rw [g.fld rfl]; exact r10, by rw [g.fld rfl]; exact r11, by rw [g.fld rfl]; exact r12⟩
theorem rT.oX {S : zS} {X : Nat → zBy × zV} (R : rT h m S) (g : fr (tO m [112, 113, 115] []) h h') (N : rT_X h' m X) : rT h' m (zs_X_ S X) := by
  obtain ⟨r0, r1, r2, r3, r4, r5, r6, r7, r8, r9, r10, r11, r12⟩ := R
  exact ⟨r0.fr g, r1.fr g rfl rfl, r2.fr g rfl rfl, r3.fr g rfl rfl, r4.fr g rfl rfl, r5.fr g rfl rfl, r6.fr g rfl, r7.fr g rfl, N, r9.fr g rfl rfl, by rw [g.fld rfl]; exact r10, by rw [g.fld rfl]; exact r11, by rw [g.fld rfl]; exact r12⟩
/-- what serves a call alone changes -/
def oN : List Nat := [16, 18, 27, 28, 29, 30, 31, 35, 37, 38, 39, 83, 84, 85, 86, 87, 103, 104, 105, 106, 107, 108, 109, 110, 111, 114, 121]
def fN : List Nat := [41, 43, 53, 108, 109, 138, 146, 147, 154]
theorem rT.oN {S : zS} (R : rT h m S) (g : fr (tO m oN fN) h h') : rT h' m S := by
  obtain ⟨r0, r1, r2, r3, r4, r5, r6, r7, r8, r9, r10, r11, r12⟩ := R
  exact ⟨r0.fr g, r1.fr g rfl rfl, r2.fr g rfl rfl, r3.fr g rfl rfl, r4.fr g rfl rfl, r5.fr g rfl rfl, r6.fr g rfl, r7.fr g rfl, r8.fr g rfl, r9.fr g rfl rfl, by rw [g.fld rfl]; exact r10, by rw [g.fld rfl]; exact r11, by rw [g.fld rfl]; exact r12⟩
end KF
