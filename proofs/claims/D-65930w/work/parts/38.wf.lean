/-! STAGE 2, 10: every run keeps: cells that are not made have tag 0; bytes are bytes, booleans 0 or 1; tags and lengths stay -/
set_option maxRecDepth 100000
/-- the boolean fields, by tag -/
def gy_z (t f : Nat) : Bool := match t with
  | 1 => Nat.beq f 4 || Nat.beq f 9 || Nat.beq f 10
  | 2 => Nat.beq f 0
  | 20 => Nat.beq f 53 || Nat.beq f 76 || Nat.beq f 77 || Nat.beq f 111 || Nat.beq f 112
  | 22 => Nat.beq f 4
  | 32 => Nat.beq f 7
  | 43 => Nat.beq f 6
  | 48 => Nat.beq f 4
  | _ => false
def gy_iok (ins : Instr) : Bool := match ins with
  | .putfield n => bif Nat.beq (n / 256 % 4) 0 then Nat.blt (n / 1024) 48 && (List.range 49).all (fun t => !(gm_sub t (n / 1024)) || !(gy_z t (n % 256))) else true
  | .new n => Nat.blt (n % 64) 48
  | .anewarray t => Nat.ble 200 t
  | _ => true
def gy_kok (k : Nat) : Bool := (List.range (gm_sz k)).all fun pc => gy_iok (gm_it k pc).1
theorem gy_kok_0 : ((List.range' 0 40).all gy_kok) = true := by decide +kernel
theorem gy_kok_40 : ((List.range' 40 40).all gy_kok) = true := by decide +kernel
theorem gy_kok_80 : ((List.range' 80 40).all gy_kok) = true := by decide +kernel
theorem gy_kok_120 : ((List.range' 120 40).all gy_kok) = true := by decide +kernel
theorem gy_kok_160 : ((List.range' 160 40).all gy_kok) = true := by decide +kernel
theorem gy_kok_200 : ((List.range' 200 40).all gy_kok) = true := by decide +kernel
theorem gy_kok_240 : ((List.range' 240 40).all gy_kok) = true := by decide +kernel
theorem gy_kok_280 : ((List.range' 280 40).all gy_kok) = true := by decide +kernel
theorem gy_kok_320 : ((List.range' 320 40).all gy_kok) = true := by decide +kernel
theorem gy_kok_360 : ((List.range' 360 40).all gy_kok) = true := by decide +kernel
theorem gy_kok_400 : ((List.range' 400 40).all gy_kok) = true := by decide +kernel
theorem gy_kok_440 : ((List.range' 440 40).all gy_kok) = true := by decide +kernel
theorem gy_kok_480 : ((List.range' 480 40).all gy_kok) = true := by decide +kernel
theorem gy_kok_520 : ((List.range' 520 40).all gy_kok) = true := by decide +kernel
theorem gy_kok_560 : ((List.range' 560 40).all gy_kok) = true := by decide +kernel
theorem gy_kok_600 : ((List.range' 600 32).all gy_kok) = true := by decide +kernel
theorem gy_kok_all {k : Nat} (hk : k < 632) : gy_kok k = true := by
  have key : ∀ a n, ((List.range' a n).all gy_kok) = true → a ≤ k → k < a + n → gy_kok k = true := fun a n h q1 q2 => List.all_eq_true.mp h k (List.mem_range'_1.mpr ⟨q1, q2⟩)
  by_cases c0 : k < 40
  · exact key 0 40 gy_kok_0 (by omega) (by omega)
  by_cases c40 : k < 80
  · exact key 40 40 gy_kok_40 (by omega) (by omega)
  by_cases c80 : k < 120
  · exact key 80 40 gy_kok_80 (by omega) (by omega)
  by_cases c120 : k < 160
  · exact key 120 40 gy_kok_120 (by omega) (by omega)
  by_cases c160 : k < 200
  · exact key 160 40 gy_kok_160 (by omega) (by omega)
  by_cases c200 : k < 240
  · exact key 200 40 gy_kok_200 (by omega) (by omega)
  by_cases c240 : k < 280
  · exact key 240 40 gy_kok_240 (by omega) (by omega)
  by_cases c280 : k < 320
  · exact key 280 40 gy_kok_280 (by omega) (by omega)
  by_cases c320 : k < 360
  · exact key 320 40 gy_kok_320 (by omega) (by omega)
  by_cases c360 : k < 400
  · exact key 360 40 gy_kok_360 (by omega) (by omega)
  by_cases c400 : k < 440
  · exact key 400 40 gy_kok_400 (by omega) (by omega)
  by_cases c440 : k < 480
  · exact key 440 40 gy_kok_440 (by omega) (by omega)
  by_cases c480 : k < 520
  · exact key 480 40 gy_kok_480 (by omega) (by omega)
  by_cases c520 : k < 560
  · exact key 520 40 gy_kok_520 (by omega) (by omega)
  by_cases c560 : k < 600
  · exact key 560 40 gy_kok_560 (by omega) (by omega)
  exact key 600 32 gy_kok_600 (by omega) (by omega)
theorem gy_it_ok {k pc len : Nat} {ins : Instr} (e : gm_it k pc = (ins, len)) : gy_iok ins = true := by
  cases hb : (Nat.blt k 632 && Nat.blt pc (gm_sz k)) with
  | false =>
    unfold gm_it at e
    rw [hb] at e
    have := (congrArg Prod.fst e).symm
    subst this
    rfl
  | true =>
    rw [Bool.and_eq_true] at hb
    have h1 : k < 632 := by simpa [Nat.blt_eq] using hb.1
    have h2 : pc < gm_sz k := by simpa [Nat.blt_eq] using hb.2
    have h4 := List.all_eq_true.mp (gy_kok_all h1) pc (List.mem_range.mpr h2)
    rw [e] at h4
    exact h4
def gy_b (x : Int32) : Prop := x.toInt8.toInt32 = x
def gy_o (x : Int32) : Prop := x = 0 ∨ x = 1
/-- a heap as runs leave it -/
def gy_wf (h : hh_T) : Prop := (∀ a, hh_sz h ≤ a → hh_tg h a = 0) ∧ (∀ a n, hh_tg h a = 101 → gy_b (hh_i h a n)) ∧ (∀ a n, hh_tg h a = 102 → gy_o (hh_i h a n)) ∧ ∀ a f, gy_z (hh_tg h a) f = true → gy_o (hh_i h a f)
/-- what stays -/
def gy_kp (h h' : hh_T) : Prop := hh_sz h ≤ hh_sz h' ∧ ∀ a, hh_tg h a ≠ 0 → hh_tg h' a = hh_tg h a ∧ hh_ln h' a = hh_ln h a
theorem gy_kp.refl (h : hh_T) : gy_kp h h := ⟨Nat.le_refl _, fun _ _ => ⟨rfl, rfl⟩⟩
theorem gy_kp.trans {h h1 h2 : hh_T} (a : gy_kp h h1) (b : gy_kp h1 h2) : gy_kp h h2 := ⟨Nat.le_trans a.1 b.1, fun q hq => by
  obtain ⟨x1, x2⟩ := a.2 q hq
  obtain ⟨y1, y2⟩ := b.2 q (by rw [x1]; exact hq)
  exact ⟨y1.trans x1, y2.trans x2⟩⟩
theorem gy_z_lt {t f : Nat} (h : gy_z t f = true) : t < 100 := by
  rcases Nat.lt_or_ge t 100 with q | q
  · exact q
  · exfalso
    unfold gy_z at h
    split at h
    all_goals first | (exact absurd q (by decide)) | cases h
theorem gy_wf.wi {h : hh_T} (w : gy_wf h) {a n : Nat} {x : Int32} (h1 : hh_tg h a = 101 → gy_b x) (h2 : hh_tg h a = 102 → gy_o x) (h3 : gy_z (hh_tg h a) n = true → gy_o x) : gy_wf (hh_wi h a n x) := by
  refine ⟨w.1, fun b j hb => ?_, fun b j hb => ?_, fun b j hb => ?_⟩
  · show gy_b (if b = a ∧ j = n then x else hh_i h b j)
    split
    · rename_i q; obtain ⟨rfl, rfl⟩ := q; exact h1 hb
    · exact w.2.1 b j hb
  · show gy_o (if b = a ∧ j = n then x else hh_i h b j)
    split
    · rename_i q; obtain ⟨rfl, rfl⟩ := q; exact h2 hb
    · exact w.2.2.1 b j hb
  · show gy_o (if b = a ∧ j = n then x else hh_i h b j)
    split
    · rename_i q; obtain ⟨rfl, rfl⟩ := q; exact h3 hb
    · exact w.2.2.2 b j hb
theorem gy_wf.al {h : hh_T} (w : gy_wf h) {t n s : Nat} : gy_wf (hh_al h t n s) := by
  refine ⟨fun a ha => ?_, fun b j hb => ?_, fun b j hb => ?_, fun b j hb => ?_⟩
  · have ha' : hh_sz h + 1 ≤ a := ha
    show (if a = hh_sz h then t else hh_tg h a) = 0
    rw [if_neg (by omega)]
    exact w.1 a (by omega)
  · show gy_b ((if b = hh_sz h then (fun _ => 0) else hh_i h b) j)
    by_cases q : b = hh_sz h
    · rw [if_pos q]; exact rfl
    · rw [if_neg q]
      refine w.2.1 b j ?_
      have hb' : (if b = hh_sz h then t else hh_tg h b) = 101 := hb
      rw [if_neg q] at hb'
      exact hb'
  · show gy_o ((if b = hh_sz h then (fun _ => 0) else hh_i h b) j)
    by_cases q : b = hh_sz h
    · rw [if_pos q]; exact Or.inl rfl
    · rw [if_neg q]
      refine w.2.2.1 b j ?_
      have hb' : (if b = hh_sz h then t else hh_tg h b) = 102 := hb
      rw [if_neg q] at hb'
      exact hb'
  · show gy_o ((if b = hh_sz h then (fun _ => 0) else hh_i h b) j)
    by_cases q : b = hh_sz h
    · rw [if_pos q]; exact Or.inl rfl
    · rw [if_neg q]
      refine w.2.2.2 b j ?_
      have hb' : gy_z (if b = hh_sz h then t else hh_tg h b) j = true := hb
      rw [if_neg q] at hb'
      exact hb'
theorem gy_kp.al {h : hh_T} (w : gy_wf h) {t n s : Nat} : gy_kp h (hh_al h t n s) := by
  refine ⟨Nat.le_succ _, fun a ha => ?_⟩
  have hne : a ≠ hh_sz h := fun q => ha (w.1 a (by omega))
  exact ⟨if_neg hne, if_neg hne⟩
theorem gy_wf.wr {h : hh_T} (w : gy_wf h) {a n : Nat} {x : Option Nat} : gy_wf (hh_wr h a n x) := w
theorem gy_kp.wr {h h1 : hh_T} (w : gy_kp h h1) {a n : Nat} {x : Option Nat} : gy_kp h (hh_wr h1 a n x) := w
theorem gy_b_of (x : Int32) : gy_b x.toInt8.toInt32 := by
  unfold gy_b
  rw [Int8.toInt8_toInt32]
def gy_S (h : hh_T) (h' : hh_T) : Prop := gy_wf h' ∧ gy_kp h h'
theorem gy_S.from {h h1 h' : hh_T} (k : gy_kp h h1) (s : gy_S h1 h') : gy_S h h' := ⟨s.1, k.trans s.2⟩
theorem gy_exc {K : gm_K} (hK : ∀ k pc L st h r h', gy_wf h → K k pc L st h = some (r, h') → gy_S h h') {k pc a : Nat} {L : gm_L} {h h' : hh_T} {r : Option Value ⊕ Nat} (w : gy_wf h) (hg : gm_exc K k pc L a h = some (r, h')) : gy_S h h' := by
  unfold gm_exc at hg
  split at hg
  · split at hg
    · exact hK _ _ _ _ _ _ _ w hg
    · cases hg; exact ⟨w, gy_kp.refl _⟩
  · cases hg
theorem gy_call {K : gm_K} (hK : ∀ k pc L st h r h', gy_wf h → K k pc L st h = some (r, h') → gy_S h h') {k pc len y n : Nat} {L : gm_L} {st : List Value} {h h' : hh_T} {r : Option Value ⊕ Nat} (w : gy_wf h) (hg : gm_call K k pc len y n L st h = some (r, h')) : gy_S h h' := by
  unfold gm_call at hg
  split at hg
  · cases e : K y 0 (gm_ent ((st.take n).reverse)) [] h with
    | none => rw [e] at hg; cases hg
    | some v =>
      rw [e] at hg
      obtain ⟨r1, h1⟩ := v
      have s1 := hK _ _ _ _ _ _ _ w e
      rcases r1 with (_ | v) | a
      · exact (hK _ _ _ _ _ _ _ s1.1 hg).from s1.2
      · exact (hK _ _ _ _ _ _ _ s1.1 hg).from s1.2
      · exact (gy_exc hK s1.1 hg).from s1.2
  · cases hg
theorem gy_stI {K : gm_K} (hK : ∀ k pc L st h r h', gy_wf h → K k pc L st h = some (r, h') → gy_S h h') {k pc len : Nat} {ins : Instr} (hi : gy_iok ins = true) {L : gm_L} {st : List Value} {h h' : hh_T} {r : Option Value ⊕ Nat} (w : gy_wf h) (hg : gm_stI K k pc len ins L st h = some (r, h')) : gy_S h h' := by
  have k0 : ∀ {k' pc' L' st'}, K k' pc' L' st' h = some (r, h') → gy_S h h' := fun q => hK _ _ _ _ _ _ _ w q
  have ki : ∀ {k' pc' L' st' a n x}, gy_wf (hh_wi h a n x) → K k' pc' L' st' (hh_wi h a n x) = some (r, h') → gy_S h h' := fun {_ _ _ _ a n x} w' q => (hK _ _ _ _ _ _ _ w' q).from (show gy_kp h (hh_wi h a n x) from gy_kp.refl h)
  have kj : ∀ {k' pc' L' st' a n x}, K k' pc' L' st' (hh_wj h a n x) = some (r, h') → gy_S h h' := fun {_ _ _ _ a n x} q => (hK _ _ _ _ _ _ _ (show gy_wf (hh_wj h a n x) from w) q).from (show gy_kp h (hh_wj h a n x) from gy_kp.refl h)
  have kr : ∀ {k' pc' L' st' a n x}, K k' pc' L' st' (hh_wr h a n x) = some (r, h') → gy_S h h' := fun {_ _ _ _ a n x} q => (hK _ _ _ _ _ _ _ (show gy_wf (hh_wr h a n x) from w) q).from (show gy_kp h (hh_wr h a n x) from gy_kp.refl h)
  have ka : ∀ {k' pc' L' st' t n s}, K k' pc' L' st' (hh_al h t n s) = some (r, h') → gy_S h h' := fun q => (hK _ _ _ _ _ _ _ w.al q).from (gy_kp.al w)
  have kii : ∀ {f : Int32 → Int32 → Int32} {pc' L'}, gm_ii st f (fun q => K k pc' L' q h) = some (r, h') → gy_S h h' := fun {f pc' L'} q => by
    unfold gm_ii at q
    split at q
    · exact k0 q
    · cases q
  have kll : ∀ {f : Int64 → Int64 → Int64} {pc' L'}, gm_ll st f (fun q => K k pc' L' q h) = some (r, h') → gy_S h h' := fun {f pc' L'} q => by
    unfold gm_ll at q
    split at q
    · exact k0 q
    · cases q
  have kli : ∀ {f : Int64 → Int32 → Int64} {pc' L'}, gm_li st f (fun q => K k pc' L' q h) = some (r, h') → gy_S h h' := fun {f pc' L'} q => by
    unfold gm_li at q
    split at q
    · exact k0 q
    · cases q
  have kbr : ∀ {cd x y p1 L1 s1 p2 L2 s2}, gm_br cd x y (K k p1 L1 s1 h) (K k p2 L2 s2 h) = some (r, h') → gy_S h h' := fun {cd x y p1 L1 s1 p2 L2 s2} q => by
    cases cd <;> simp only [gm_br] at q <;> split at q <;> exact k0 q
  have kend : ∀ {v : Option Value ⊕ Nat}, some (v, h) = some (r, h') → gy_S h h' := fun {v} q => by
    cases q
    exact ⟨w, gy_kp.refl _⟩
  cases ins
  case putfield n =>
    simp only [gm_stI] at hg
    split at hg
    · rename_i z _ _ _
      split at hg
      · rename_i x a r0 hz hs
        have hb : Nat.beq (n / 256 % 4) 0 = true := by rw [hz]; rfl
        simp only [gy_iok, hb, cond_true, Bool.and_eq_true] at hi
        have ht : hh_tg h a < 49 := by
          rcases Nat.lt_or_ge (hh_tg h a) 49 with q | q
          · exact q
          · exfalso
            have h48 : n / 1024 < 48 := by simpa [Nat.blt_eq] using hi.1
            unfold gm_sub at hs
            split at hs
            all_goals (simp only [Bool.or_eq_true, beq_iff_eq] at hs; omega)
        have hno : gy_z (hh_tg h a) (n % 256) = false := by
          have := List.all_eq_true.mp hi.2 (hh_tg h a) (List.mem_range.mpr ht)
          rw [hs, Bool.not_true, Bool.false_or] at this
          simpa using this
        have hlt : ∀ c, c = 101 ∨ c = 102 → hh_tg h a ≠ c := by rintro c (rfl | rfl) q <;> omega
        exact ki (w.wi (fun q => absurd q (hlt _ (Or.inl rfl))) (fun q => absurd q (hlt _ (Or.inr rfl))) (fun q => by rw [hno] at q; cases q)) hg
      · cases hg
    · split at hg
      · rename_i hx
        exact ki (w.wi (fun q => by rcases hx.2 with e | e <;> (subst e; rfl)) (fun _ => hx.2) (fun _ => hx.2)) hg
      · cases hg
    · split at hg
      · exact kj hg
      · cases hg
    · split at hg
      · exact kr hg
      · cases hg
    · split at hg
      · exact kr hg
      · cases hg
    · cases hg
  case iastore =>
    simp only [gm_stI] at hg
    split at hg
    · split at hg
      · rename_i hx
        exact ki (w.wi (fun q => by rw [hx.1] at q; cases q) (fun q => by rw [hx.1] at q; cases q) (fun q => by rw [hx.1] at q; cases q)) hg
      · cases hg
    · cases hg
  case bastore =>
    simp only [gm_stI] at hg
    split at hg
    · split at hg
      · rename_i hx
        exact ki (w.wi (fun q => gy_b_of _) (fun q => by rw [hx.1] at q; cases q) (fun q => by rw [hx.1] at q; cases q)) hg
      · split at hg
        · rename_i hx
          exact ki (w.wi (fun q => by rw [hx.1] at q; cases q) (fun q => hx.2.2) (fun q => by rw [hx.1] at q; cases q)) hg
        · cases hg
    · cases hg
  case multianewarray x y =>
    simp only [gm_stI] at hg
    split at hg
    · split at hg
      · exact (hK _ _ _ _ _ _ _ (w.al.al.wr.al.wr.al.wr) hg).from ((((((gy_kp.al w).trans (gy_kp.al w.al)).wr).trans (gy_kp.al w.al.al.wr)).wr.trans (gy_kp.al w.al.al.wr.al.wr)).wr)
      · cases hg
    · cases hg
  all_goals first
    | exact k0 hg
    | exact ka hg
    | exact kii hg
    | exact kll hg
    | exact kli hg
    | exact gy_call hK w hg
    | (revert hg; simp only [gm_stI]; intro hg; cases hg; done)
    | skip
  all_goals (revert hg; simp only [gm_stI])
  all_goals ((repeat' split) <;> intro hg <;> first | exact k0 hg | exact ka hg | exact kj hg | exact kr hg | (cases hg; done) | exact kbr hg | exact kii hg | exact kll hg | exact kli hg | exact kend hg | exact gy_exc hK w hg | exact gy_call hK w hg)
theorem gy_go : ∀ (n k pc : Nat) (L : gm_L) (st : List Value) (h : hh_T) (r : Option Value ⊕ Nat) (h' : hh_T), gy_wf h → gm_go n k pc L st h = some (r, h') → gy_S h h'
  | 0, _, _, _, _, _, _, _, _, hg => by cases hg
  | n + 1, k, pc, L, st, h, r, h', w, hg => gy_stI (gy_go n) (gy_it_ok (show gm_it k pc = ((gm_it k pc).1, (gm_it k pc).2) from rfl)) w hg
/-- what every run keeps may be had for nothing -/
theorem gy_G {k pc : Nat} {L : gm_L} {st : List Value} {h : hh_T} {Q : Option Value ⊕ Nat → hh_T → Prop} (w : gy_wf h) (H : gm_G k pc L st h Q) : gm_G k pc L st h (fun r h' => Q r h' ∧ gy_wf h' ∧ gy_kp h h') := by
  obtain ⟨n, r, h', h1, h2⟩ := H
  exact ⟨n, r, h', h1, h2, gy_go n _ _ _ _ _ _ _ w h1⟩
