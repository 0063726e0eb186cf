/-! STAGE 3: sets by numbers; a change ends -/
section CO
variable {h h' : hh_T} {m : Nat} {S : zS} {E : zE} {Q : Option Value ⊕ Nat → hh_T → Prop}
theorem t_seti {s : Int32} (hT : tw_ok h m) (R : rT_E h m E) (up : ze_up E = true) (hu : ∀ x y, x ∈ zu_sets (ze_liv E) → y ∈ zu_sets (ze_liv E) → zd_no x = zd_no y → x = y)
    (H0 : zu_seti (ze_liv E) s = none → Q (.inl (some (.int (Int32.ofInt (-1))))) h) (H1 : ∀ k d, k < 8 → td h m k d → d ∈ zu_sets (ze_liv E) → zu_seti (ze_liv E) s = some d → Q (.inl (some (.int (Int32.ofNat k)))) h) : gm_G 152 0 [some (.ref m), some (.int s)] [] h Q := by
  obtain ⟨TU, -⟩ := R.2.2.1 up
  refine t_setAt hT ?_
  have e77 : ¬ hh_i h m 77 = (Int32.ofNat 0) := by rw [R.2.1, up]; decide
  rcases i_cases s with hs | ⟨n, hn, rfl⟩
  · rw [if_pos (Or.inr hs)]
    refine H0 ?_
    unfold zu_seti zi_n
    rw [if_pos hs]
    rfl
  · have hs : ¬ (Int32.ofNat n) < (Int32.ofNat 0) := by rw [i_n0 hn]; exact id
    rw [if_neg (fun q => by rcases q with q | q; exact e77 q; exact hs q)]
    have es : zu_seti (ze_liv E) (Int32.ofNat n) = zu_set (ze_liv E) n := by
      unfold zu_seti zi_n
      rw [if_neg hs, i_tn hn]
      rfl
    rw [es] at H0 H1
    cases q : zu_set (ze_liv E) n with
    | none =>
      have : ffi (fun k => decide (hh_i h (m + 59) k = (Int32.ofNat n))) 8 0 = none := by
        cases f : ffi (fun k => decide (hh_i h (m + 59) k = (Int32.ofNat n))) 8 0 with
        | none => rfl
        | some k =>
          exfalso
          obtain ⟨-, f2, f3, -⟩ := ffi_some f
          have f3 : hh_i h (m + 59) k = (Int32.ofNat n) := of_decide_eq_true f3
          have t1 := TU.1 k (by omega)
          rw [Nat.mul_zero, Nat.zero_add] at t1
          rcases t1 with z | ⟨d, z1, z2⟩
          · rw [f3] at z; exact i_nm1 hn z
          · unfold zu_set at q
            rw [List.find?_eq_none] at q
            refine q d z1 (decide_eq_true ?_)
            exact (i_eq (by have := z2.2.1; omega) hn).mp (z2.1.symm.trans f3)
      rw [this]
      exact H0 q
    | some d =>
      obtain ⟨d1, d2⟩ := zu_set_m q
      obtain ⟨k, k1, k2, k3⟩ := tu_at TU d1
      rw [d2] at k3
      rw [k3]
      exact H1 k d k1 k2 d1 q
theorem t_codeC {s : Int32} (hT : tw_ok h m) (R : rT_E h m E) (up : ze_up E = true) (hu : ∀ x y, x ∈ zu_sets (ze_liv E) → y ∈ zu_sets (ze_liv E) → zd_no x = zd_no y → x = y) (hc : ∀ d, d ∈ zu_sets (ze_liv E) → zu_ch (ze_liv E) 9 d ∧ zu_pr (ze_liv E) d 3 ≤ 2)
    (H0 : zu_seti (ze_liv E) s = none → Q (.inl (some (.int (Int32.ofInt (-2))))) h) (H1 : ∀ d, zu_seti (ze_liv E) s = some d → 0 < zd_ki d → Q (.inl (some (.int (Int32.ofInt (-10))))) h) (H2 : ∀ d, zu_seti (ze_liv E) s = some d → ¬ 0 < zd_ki d → zu_pr (ze_liv E) d 3 = 1 → Q (.inl (some (.int (Int32.ofInt (-6))))) h)
    (H3 : ∀ d, zu_seti (ze_liv E) s = some d → ¬ 0 < zd_ki d → ¬ zu_pr (ze_liv E) d 3 = 1 → Q (.inl (some (.int (Int32.ofNat 0)))) h) : gm_G 366 0 [some (.ref m), some (.int s)] [] h Q := by
  refine w_366_0 hT ?_
  refine t_seti hT R up hu (fun e => ?_) (fun k d hk D hd e => ?_)
  · exact ⟨fun z => absurd (by decide) z, fun _ => H0 e⟩
  · have e61 : hh_i h (m + 61) k = (Int32.ofNat (zd_ki d)) := D.2.2.2.2.1
    have l61 := D.2.2.2.2.2.1
    obtain ⟨c1, c2⟩ := hc d hd
    refine ⟨fun _ => ⟨k, ix_n (by omega) (by omega), ?_⟩, fun z => absurd z (by rw [i_n0 (by omega)]; exact id)⟩
    rw [e61]
    refine ⟨fun z => ?_, fun z => ?_⟩
    · rw [i_lt (by decide) (by omega)] at z
      have e77 : hh_i h m 77 = (Int32.ofNat 1) := by rw [R.2.1, up]; rfl
      refine w_297_0 hT (t_property0 hT e77 (R.2.2.1 up).1 (by decide) 9 k d hk D c1 ?_)
      refine ⟨fun y => H3 d e z (fun q => y (by rw [show zu_prop (ze_liv E) 3 9 d = 1 from q])), fun y => H2 d e z ((i_eq (by show zu_pr (ze_liv E) d 3 < _; omega) (by decide)).mp y)⟩
    · rw [i_lt (by decide) (by omega)] at z
      exact H1 d e z
/-- the end of a call that changed something -/
theorem t_fin {d : zD} {c : zH} {v : Int32} {dn : Nat} {φ : zS → zF} (hok : ¬ (zx_do S d c true).2.1 < (Int32.ofNat 0)) (hR : zs_R (zx_do S d c true).1 = zs_R S) (hdn : (zx_do S d c true).2.2 = dn) (hno : zu_no (zs_liv (zx_do S d c true).1) < 2147482000) (hφ : ∀ X, ¬ zp_arm (zs_P X) = some 0 → φ (zs_turn X).1 = φ X)
    (R : rTq h m (zs_F_ (zs_row (zx_do S d c true).1 (zd_no d) c (zs_pm S d false).1) (φ (zs_row (zx_do S d c true).1 (zd_no d) c (zs_pm S d false).1)))) (w : gy_wf h) (K : zg_ok (zs_P (zx_do S d c true).1) (zs_G (zx_do S d c true).1)) (up : zs_up (zx_do S d c true).1 = true) (hU : zU_ok (zs_G (zx_do S d c true).1) (zu_e (zs_E (zx_do S d c true).1))) (hC : zc_zb (zs_G (zx_do S d c true).1) (zs_C (zx_do S d c true).1))
    (e110 : hh_i h m 110 = (Int32.ofNat dn)) (e112 : hh_i h m 112 = bi (zs_pm S d false).2) (e111 : hh_i h m 111 = (Int32.ofNat 0))
    (H : ∀ h', gy_wf h' → rT h' m (zs_fin (zs_perf S d c) (fun X => (zs_F_ X (φ X), v))).1 → Q (.inl (some (.int (zs_fin (zs_perf S d c) (fun X => (zs_F_ X (φ X), v))).2))) h') : gm_G 468 0 [some (.ref m), some (.int v)] [] h Q := by
  rw [fin_perf hok hR hno hφ, hdn] at H
  obtain ⟨Y, eY⟩ : ∃ Y, Y = zs_F_ (zs_row (zx_do S d c true).1 (zd_no d) c (zs_pm S d false).1) (φ (zs_row (zx_do S d c true).1 (zd_no d) c (zs_pm S d false).1)) := ⟨_, rfl⟩
  have KY : zg_ok (zs_P Y) (zs_G Y) := by rw [eY]; exact K
  have upY : zs_up Y = true := by rw [eY]; exact up
  have UY : zU_ok (zs_G Y) (zu_e (zs_E Y)) := by rw [eY]; exact hU
  have CY : zc_zb (zs_G Y) (zs_C Y) := by rw [eY]; exact hC
  have nY : zu_no (zs_liv Y) < 2147482000 := by rw [eY]; exact hno
  rw [← eY] at R H
  refine t_finish R w KY upY UY CY nY e110 e112 e111 (fun hd ht h' w' R' => ?_) (fun hd h' w' R' => ?_)
  · rw [if_pos ⟨hd, ht⟩] at H
    have z := (zs_turn_2 nY).mp ht
    have := H h' w' R'
    rw [zs_turn_0 z] at this
    exact this
  · rw [if_neg (fun y => hd y.1 y.2)] at H
    exact H h' w' R'
end CO
