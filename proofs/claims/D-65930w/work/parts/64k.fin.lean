/-! STAGE 3: a change and its end, by the spec -/
theorem zs_turn_F0 {X : zS} {f : zF} (z : zp_arm (zs_P X) = some 0) : zs_turn (zs_F_ X f) = zs_turn X := by
  have z' : zp_arm (zs_P (zs_F_ X f)) = some 0 := z
  rw [zs_turn_0 z, zs_turn_0 z']
  rfl
theorem zs_turn_F1 {X : zS} {f : zF} (z : ¬ zp_arm (zs_P X) = some 0) : zs_turn (zs_F_ X f) = (zs_F_ (zs_turn X).1 f, (zs_turn X).2) := by
  have z' : ¬ zp_arm (zs_P (zs_F_ X f)) = some 0 := z
  rw [zs_turn_1 z, zs_turn_1 z']
  rfl
theorem zs_turn_2 {X : zS} (hno : zu_no (zs_liv X) < 2147482000) : (zs_turn X).2 < (Int32.ofNat 0) ↔ zp_arm (zs_P X) = some 0 := by
  by_cases z : zp_arm (zs_P X) = some 0
  · rw [zs_turn_0 z]
    exact ⟨fun _ => z, fun _ => show (Int32.ofInt (-12)) < (Int32.ofNat 0) by decide⟩
  · rw [zs_turn_1 z]
    refine ⟨fun y => ?_, fun y => absurd y z⟩
    have y : (Int32.ofNat (zu_no (zs_liv X) + 1)) < (Int32.ofNat 0) := y
    rw [i_n0 (by omega)] at y
    exact y.elim
/-- a row with one change more, of a state whose rows are those of S -/
theorem zs_row_eq {S D : zS} {n p : Nat} {c : zH} (hR : zs_R D = zs_R S) : zs_row D n c p = zs_R_ D (fu (zs_R S) n ((zs_R S n).1 ++ [c], p)) := by
  unfold zs_row
  rw [hR]
theorem zs_np_row {S D : zS} {n : Nat} {c : zH} : zs_np (zs_R_ D (fu (zs_R S) n ((zs_R S n).1 ++ [c], (zs_R S n).2))) = zs_np S := by
  show rsum (fun k => (fu (zs_R S) n ((zs_R S n).1 ++ [c], (zs_R S n).2) k).2) 100 = rsum (fun k => (zs_R S k).2) 100
  refine rsum_cg 100 (fun k _ => ?_)
  by_cases u : k = n
  · rw [u, fu_get]
  · rw [fu_ne u]
theorem zs_prom_row {S D : zS} {n : Nat} {c : zH} : zs_prom (zs_R_ D (fu (zs_R S) n ((zs_R S n).1 ++ [c], (zs_R S n).2))) n = if zs_np S - (zs_R S n).2 + ((zs_R S n).1.length + 1) ≤ 16 then (zs_R_ D (fu (zs_R S) n ((zs_R S n).1 ++ [c], (zs_R S n).1.length + 1)), (Int32.ofNat 0))
    else if (zs_turn (zs_R_ D (fu (zs_R S) n ((zs_R S n).1 ++ [c], (zs_R S n).2)))).2 < (Int32.ofNat 0) then zs_turn (zs_R_ D (fu (zs_R S) n ((zs_R S n).1 ++ [c], (zs_R S n).2))) else ((zs_turn (zs_R_ D (fu (zs_R S) n ((zs_R S n).1 ++ [c], (zs_R S n).2)))).1, (Int32.ofNat 0)) := by
  have e1 : zs_R (zs_R_ D (fu (zs_R S) n ((zs_R S n).1 ++ [c], (zs_R S n).2))) n = ((zs_R S n).1 ++ [c], (zs_R S n).2) := fu_get _ _ _
  have e2 : ((zs_R S n).1 ++ [c]).length = (zs_R S n).1.length + 1 := by rw [List.length_append]; rfl
  have e3 : zs_R_ (zs_R_ D (fu (zs_R S) n ((zs_R S n).1 ++ [c], (zs_R S n).2))) (fu (fu (zs_R S) n ((zs_R S n).1 ++ [c], (zs_R S n).2)) n ((zs_R S n).1 ++ [c], (zs_R S n).1.length + 1)) = zs_R_ D (fu (zs_R S) n ((zs_R S n).1 ++ [c], (zs_R S n).1.length + 1)) := by
    rw [fu_fu]
    rfl
  unfold zs_prom
  rw [zs_np_row, e1]
  dsimp only
  rw [e2]
  by_cases u : zs_np S - (zs_R S n).2 + ((zs_R S n).1.length + 1) ≤ 16
  · rw [if_pos u, if_pos u]
    exact congrArg (fun x => (x, (Int32.ofNat 0))) e3
  · rw [if_neg u, if_neg u]
theorem fin_perf {S : zS} {d : zD} {c : zH} {v : Int32} {φ : zS → zF} (hok : ¬ (zx_do S d c true).2.1 < (Int32.ofNat 0)) (hR : zs_R (zx_do S d c true).1 = zs_R S) (hno : zu_no (zs_liv (zx_do S d c true).1) < 2147482000) (hφ : ∀ X, ¬ zp_arm (zs_P X) = some 0 → φ (zs_turn X).1 = φ X) :
    zs_fin (zs_perf S d c) (fun X => (zs_F_ X (φ X), v)) = if (zs_pm S d false).2 = true ∧ (zs_turn (zs_F_ (zs_row (zx_do S d c true).1 (zd_no d) c (zs_pm S d false).1) (φ (zs_row (zx_do S d c true).1 (zd_no d) c (zs_pm S d false).1)))).2 < (Int32.ofNat 0)
      then zs_turn (zs_F_ (zs_row (zx_do S d c true).1 (zd_no d) c (zs_pm S d false).1) (φ (zs_row (zx_do S d c true).1 (zd_no d) c (zs_pm S d false).1)))
      else zs_good (if (zs_pm S d false).2 then (zs_turn (zs_F_ (zs_row (zx_do S d c true).1 (zd_no d) c (zs_pm S d false).1) (φ (zs_row (zx_do S d c true).1 (zd_no d) c (zs_pm S d false).1)))).1 else zs_F_ (zs_row (zx_do S d c true).1 (zd_no d) c (zs_pm S d false).1) (φ (zs_row (zx_do S d c true).1 (zd_no d) c (zs_pm S d false).1))) v (zx_do S d c true).2.2 := by
  obtain ⟨D, eD⟩ : ∃ D, D = (zx_do S d c true).1 := ⟨_, rfl⟩
  obtain ⟨dn, edn⟩ : ∃ dn, dn = (zx_do S d c true).2.2 := ⟨_, rfl⟩
  rw [zs_row_eq hR]
  unfold zs_perf
  rw [if_neg hok]
  rw [← eD, ← edn]
  rw [← eD] at hno
  unfold zs_pm
  rw [if_neg (show ¬ false = true by decide)]
  by_cases p4 : zu_pr (zs_liv S) d 4 = 1
  · rw [if_pos p4, if_pos p4, zs_prom_row]
    by_cases u : zs_np S - (zs_R S (zd_no d)).2 + ((zs_R S (zd_no d)).1.length + 1) ≤ 16
    · rw [if_pos u, if_pos u]
      dsimp only
      rw [if_neg (show ¬ (false = true ∧ _) from fun y => by cases y.1), if_neg (show ¬ false = true by decide)]
      unfold zs_fin
      dsimp only
      rw [if_neg (show ¬ (Int32.ofNat 0) < (Int32.ofNat 0) by decide)]
    · rw [if_neg u, if_neg u]
      dsimp only
      obtain ⟨X, eX⟩ : ∃ X, X = zs_R_ D (fu (zs_R S) (zd_no d) ((zs_R S (zd_no d)).1 ++ [c], (zs_R S (zd_no d)).2)) := ⟨_, rfl⟩
      have hnoX : zu_no (zs_liv X) < 2147482000 := by rw [eX]; exact hno
      rw [← eX]
      by_cases z : zp_arm (zs_P X) = some 0
      · rw [if_pos ((zs_turn_2 hnoX).mpr z), zs_turn_F0 z, if_pos ⟨rfl, (zs_turn_2 hnoX).mpr z⟩]
        unfold zs_fin
        dsimp only
        rw [if_pos ((zs_turn_2 hnoX).mpr z)]
      · have z2 : ¬ (zs_turn X).2 < (Int32.ofNat 0) := fun y => z ((zs_turn_2 hnoX).mp y)
        rw [if_neg z2, zs_turn_F1 z, if_neg (show ¬ (true = true ∧ (zs_turn X).2 < (Int32.ofNat 0)) from fun y => z2 y.2), if_pos rfl]
        unfold zs_fin
        dsimp only
        rw [if_neg (show ¬ (Int32.ofNat 0) < (Int32.ofNat 0) by decide), hφ X z]
  · rw [if_neg p4, if_neg p4]
    dsimp only
    rw [if_neg (show ¬ (false = true ∧ _) from fun y => by cases y.1), if_neg (show ¬ false = true by decide)]
    unfold zs_fin
    dsimp only
    rw [if_neg (show ¬ (Int32.ofNat 0) < (Int32.ofNat 0) by decide)]
