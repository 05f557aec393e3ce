/-! LAYER 2: step rules: tests -/
theorem mem_l {ρ0 : List Int32} {x : Int32} : x ∈ ρ0 ++ [x] := List.mem_append_right _ (List.mem_singleton.mpr rfl)
theorem n10 : ¬ ((1 : Int32) = 0) := by decide
theorem n01 : ¬ ((0 : Int32) = 1) := by decide
/-- a register of a value is read -/
theorem rd_x {e : EV} {w : WD} {xf : Int32 → List Int32} {c d : Int32} {rest : PL2} {f : Int32} {fl : List Int32} {ρ : List Int32} {m : Int32} {g p q F n : Int32} {σ μ : mS} (S : ST e w xf c d rest f fl ρ m g p q F n σ μ) (z : zk e g ρ) {x : Int32} (hx : x ∈ ρ) (x0 : 0 ≤ x) {N : Nat} : xx6_tag N σ x = some (xt σ f x, σ) ∧ xx6_value N σ x = some (xv σ f x, σ) := by
  obtain ⟨z1, z2, z3, z4, z5, z6, z7⟩ := PT_k S.1 z
  have r1 := z2 _ hx
  rw [dc_p x0] at r1
  have I := rg_i2 z3.1 z3.2.2.1 z3.2.1 z3.2.2.2 x0 r1
  have e410 : σ.1 410 = sI σ 347 f := S.2.1
  exact ⟨by rw [xx6_tag, e410, gd_in (by decide) I.1 I.2]; rfl, by rw [xx6_value, e410, gd_in (by decide) I.1 I.2]; rfl⟩
/-- the value on top, on both sides -/
theorem top_S {e : EV} {w : WD} {xf : Int32 → List Int32} {c d : Int32} {rest : PL2} {f : Int32} {fl : List Int32} {ρ0 : List Int32} {x : Int32} {g p q F n : Int32} {σ μ : mS} (S : ST e w xf c d rest f fl (ρ0 ++ [x]) (-1) g p q F n σ μ) (z : zk e g (ρ0 ++ [x])) (x0 : 0 ≤ x) : VV w (xt σ f x) (xv σ f x) (sI μ 141 (sF μ 143 - 1)) (sJ μ 142 (sF μ 143 - 1)) ∧ (0 ≤ sF μ 143 - 1 ∧ sF μ 143 - 1 < 500000) ∧ sF μ 143 - 1 = mff μ (n - 1) 3 + Int32.ofNat ρ0.length ∧ ST e w xf c d rest f fl ρ0 (-1) g p q F n σ (md_pi μ 143 (sF μ 143 - 1)) := by
  obtain ⟨t1, t2, t3, A⟩ := PT_top S.1 z.1
  exact ⟨RV_V t1 x0, t2, t3, A, S.2⟩
/-- a test of the value on top -/
theorem test_2 {e : EV} {w : WD} {xf : Int32 → List Int32} {c d : Int32} {rest : PL2} {f : Int32} {fl : List Int32} {ρ0 : List Int32} {x : Int32} {g p q F n : Int32} {σ μ : mS} (S : ST e w xf c d rest f fl (ρ0 ++ [x]) (-1) g p q F n σ μ) (z : zk e g (ρ0 ++ [x])) (x0 : 0 ≤ x) {N N' : Nat} : ∃ b : Int32, (b = 0 ∨ b = 1) ∧ xx6_tag N σ x = some (xt σ f x, σ) ∧ (∀ υ, xx6_isTrue N υ (xt σ f x) = some (b, υ)) ∧ (∀ υ, mm_isTrue N' υ (sI μ 141 (sF μ 143 - 1)) (sJ μ 142 (sF μ 143 - 1)) = some (b, υ)) ∧ (0 ≤ sF μ 143 - 1 ∧ sF μ 143 - 1 < 500000) ∧ ST e w xf c d rest f fl ρ0 (-1) g p q F n σ (md_pi μ 143 (sF μ 143 - 1)) := by
  obtain ⟨v, t2, t3, S2⟩ := top_S S z x0
  obtain ⟨b, hb, i1, i2⟩ := truth_2 (N := N) (σ := σ) (μ := μ) v
  refine ⟨b, hb, (rd_x S z mem_l x0).1, fun υ => ?_, fun υ => ?_, t2, S2⟩
  · rw [truth_x] at i1 ⊢
    have e := congrArg Prod.fst (Option.some.inj i1)
    simp only at e
    rw [e]
  · rw [isTrue_m] at i2 ⊢
    have e := congrArg Prod.fst (Option.some.inj i2)
    simp only at e
    rw [e]
theorem zk_a {e : EV} {g : Int32} {ρ : List Int32} {x : Int32} (h : zk e g ρ) : zk e g ρ := h
/-- the reference's place, written -/
theorem ai_146 {μ : mS} {k q : Int32} (h : μ.2.2.1 146 k.toNatClampNeg = q) : md_ai μ 146 k.toNatClampNeg (μ.2.2.1 146 k.toNatClampNeg) = md_ai μ 146 k.toNatClampNeg q := by rw [h]
/-- UNLESS -/
theorem r_unless {e : EV} {w : WD} {xf : Int32 → List Int32} {c d : Int32} {rest : PL2} {f : Int32} {fl : List Int32} {ρ0 : List Int32} {x : Int32} {g p q F n : Int32} {σ μ : mS} (Z : ZRok e) {M rk : Nat} (G : GK e M F n rk) (A : PT e w xf c d rest f fl (ρ0 ++ [x]) (-1) g p q F n σ μ) (z : eZ e rk g p q (ρ0 ++ [x]) (-1)) (ho : opx e p 22) (ha : acm e q 29) (hr : nx e (p + 1) = x) (x0 : 0 ≤ x) (L1 : lo e rk g (p + 3) (q + 1) ρ0 (-1)) (L2 : lo e rk g (nx e (p + 2)) (sI (eμ e) 71 q) ρ0 (-1)) : Good e (M + 3000) σ μ := by
  have hx := PT_x A ho (fun s => rfl)
  have hm := act_f A ha
  rw [af_29, act_g A ha, mf_29] at hm
  have S := PT_s A 3
  have o := ops_1 ho.1.1 ho.1.2
  have f01 := (PT_N A).1
  have k01 := (PT_N A).2.1
  have h256 := fun i => xP_256 S.1 i
  rw [sf_22, gd_in (by decide) o.1.1 o.1.2, h256, hr] at hx
  generalize xP σ f p 3 = τ at hx S h256
  generalize actP μ (n - 1) q = τm at hm S
  have e411 : τ.1 411 = f := S.2.2
  obtain ⟨b, hb, t1, i1, i2, t2, S2⟩ := test_2 (N := eN e) (N' := eN e) S (zk_of Z z) x0
  have q146 : sI (md_pi τm 143 (sF τm 143 - 1)) 146 (n - 1) = q + 1 := by
    have := S2.1.2.2.2.1
    rw [S2.1.2.2.2.2.2] at this
    exact this
  rw [t1, bd_so, i1, bd_so] at hx
  simp only [lt, sF_fold, sG_fold, sI_fold, sJ_fold, sF_pi, sF_pl, sF_ai, sF_al, sG_pi, sG_pl, sG_ai, sG_al, sI_pi, sI_pl, sI_al, sI_ai1, sI_ai2, sJ_pi, sJ_pl, sJ_ai, sJ_al1, sJ_al2, Nat.reduceEqDiff, if_true, if_false, ne_eq, not_false_eq_true, ite_true, ite_false] at hm
  rw [gd_in (by decide) t2.1 t2.2, gd_in (by decide) t2.1 t2.2, i2, bd_so] at hm
  rcases hb with rfl | rfl
  · rw [if_pos rfl, gd_in (by decide) o.2.1.1 o.2.1.2, e411, gd_in (by decide) f01.1 f01.2, h256, lt] at hx
    rw [if_pos rfl, mm_actMore_394, gd_in (by decide) k01.1 k01.2, lt, mm_actMore_926, bd_so] at hm
    exact Good_2 A hx hm (GK_lo G (PT_jm (PT_go S2.1 _) _) L2)
  · rw [if_neg n10] at hx
    rw [if_neg n10, gd_in (by decide) k01.1 k01.2, mm_actMore_394, gd_in (by decide) k01.1 k01.2, lt, mm_actMore_926, bd_so] at hm
    exact Good_2 A hx hm (GK_lo G (PT_jm S2.1 _) (by rw [q146]; exact L1))
/-- AND: UNLESS, the value stays where it goes on elsewhere -/
theorem r_and {e : EV} {w : WD} {xf : Int32 → List Int32} {c d : Int32} {rest : PL2} {f : Int32} {fl : List Int32} {ρ0 : List Int32} {x : Int32} {g p q F n : Int32} {σ μ : mS} (Z : ZRok e) {M rk : Nat} (G : GK e M F n rk) (A : PT e w xf c d rest f fl (ρ0 ++ [x]) (-1) g p q F n σ μ) (z : eZ e rk g p q (ρ0 ++ [x]) (-1)) (ho : opx e p 22) (ha : acm e q 30) (hr : nx e (p + 1) = x) (x0 : 0 ≤ x) (L1 : lo e rk g (p + 3) (q + 1) ρ0 (-1)) (L2 : lo e rk g (nx e (p + 2)) (sI (eμ e) 71 q) (ρ0 ++ [x]) (-1)) : Good e (M + 3000) σ μ := by
  have hx := PT_x A ho (fun s => rfl)
  have hm := act_f A ha
  have k70 := act_k A ha
  rw [af_30, act_g A ha, mf_30] at hm
  have S := PT_s A 3
  have o := ops_1 ho.1.1 ho.1.2
  have f01 := (PT_N A).1
  have k01 := (PT_N A).2.1
  have h256 := fun i => xP_256 S.1 i
  rw [sf_22, gd_in (by decide) o.1.1 o.1.2, h256, hr] at hx
  generalize xP σ f p 3 = τ at hx S h256
  generalize actP μ (n - 1) q = τm at hm S k70
  have e411 : τ.1 411 = f := S.2.2
  obtain ⟨b, hb, t1, i1, i2, t2, S2⟩ := test_2 (N := eN e) (N' := eN e) S (zk_of Z z) x0
  rw [t1, bd_so, i1, bd_so] at hx
  simp only [lt, sF_fold, sG_fold, sI_fold, sJ_fold, sF_pi, sF_pl, sF_ai, sF_al, sG_pi, sG_pl, sG_ai, sG_al, sI_pi, sI_pl, sI_al, sI_ai1, sI_ai2, sJ_pi, sJ_pl, sJ_ai, sJ_al1, sJ_al2, Nat.reduceEqDiff, if_true, if_false, ne_eq, not_false_eq_true, ite_true, ite_false] at hm
  have k70' : sI τm 70 q = 30 := k70.2
  rw [gd_in (by decide) t2.1 t2.2, gd_in (by decide) t2.1 t2.2, i2, bd_so, k70.1, gd_tt, k70', if_neg (by decide), mm_actMore_439] at hm
  rcases hb with rfl | rfl
  · rw [if_pos rfl, gd_in (by decide) o.2.1.1 o.2.1.2, e411, gd_in (by decide) f01.1 f01.2, h256, lt] at hx
    rw [if_pos rfl, gd_in (by decide) k01.1 k01.2, lt, mm_actMore_926, bd_so] at hm
    exact Good_2 A hx hm (GK_lo G (PT_jm (PT_go S.1 _) _) L2)
  · rw [if_neg n10] at hx
    rw [if_neg n10, lt, mm_actMore_926, bd_so] at hm
    exact Good_2 A hx hm (GK_lo G S2.1 L1)
/-- OR -/
theorem r_or {e : EV} {w : WD} {xf : Int32 → List Int32} {c d : Int32} {rest : PL2} {f : Int32} {fl : List Int32} {ρ0 : List Int32} {x : Int32} {g p q F n : Int32} {σ μ : mS} (Z : ZRok e) {M rk : Nat} (G : GK e M F n rk) (A : PT e w xf c d rest f fl (ρ0 ++ [x]) (-1) g p q F n σ μ) (z : eZ e rk g p q (ρ0 ++ [x]) (-1)) (ho : opx e p 23) (ha : acm e q 31) (hr : nx e (p + 1) = x) (x0 : 0 ≤ x) (L1 : lo e rk g (p + 3) (q + 1) ρ0 (-1)) (L2 : lo e rk g (nx e (p + 2)) (sI (eμ e) 71 q) (ρ0 ++ [x]) (-1)) : Good e (M + 3000) σ μ := by
  have hx := PT_x A ho (fun s => rfl)
  have hm := act_f A ha
  have k70 := act_k A ha
  rw [af_31, act_g A ha, mf_31] at hm
  have S := PT_s A 3
  have o := ops_1 ho.1.1 ho.1.2
  have f01 := (PT_N A).1
  have k01 := (PT_N A).2.1
  have h256 := fun i => xP_256 S.1 i
  rw [sf_23, gd_in (by decide) o.1.1 o.1.2, h256, hr] at hx
  generalize xP σ f p 3 = τ at hx S h256
  generalize actP μ (n - 1) q = τm at hm S k70
  have e411 : τ.1 411 = f := S.2.2
  obtain ⟨b, hb, t1, i1, i2, t2, S2⟩ := test_2 (N := eN e) (N' := eN e) S (zk_of Z z) x0
  rw [t1, bd_so, i1, bd_so] at hx
  simp only [lt, sF_fold, sG_fold, sI_fold, sJ_fold, sF_pi, sF_pl, sF_ai, sF_al, sG_pi, sG_pl, sG_ai, sG_al, sI_pi, sI_pl, sI_al, sI_ai1, sI_ai2, sJ_pi, sJ_pl, sJ_ai, sJ_al1, sJ_al2, Nat.reduceEqDiff, if_true, if_false, ne_eq, not_false_eq_true, ite_true, ite_false] at hm
  have k70' : sI τm 70 q = 31 := k70.2
  rw [gd_in (by decide) t2.1 t2.2, gd_in (by decide) t2.1 t2.2, i2, bd_so, k70.1, gd_tt, k70', if_pos rfl, mm_actMore_439] at hm
  rcases hb with rfl | rfl
  · rw [if_pos rfl] at hx
    rw [if_neg n01, lt, mm_actMore_926, bd_so] at hm
    exact Good_2 A hx hm (GK_lo G S2.1 L1)
  · rw [if_neg n10, gd_in (by decide) o.2.1.1 o.2.1.2, e411, gd_in (by decide) f01.1 f01.2, h256, lt] at hx
    rw [if_pos rfl, gd_in (by decide) k01.1 k01.2, lt, mm_actMore_926, bd_so] at hm
    exact Good_2 A hx hm (GK_lo G (PT_jm (PT_go S.1 _) _) L2)
/-- UNTIL -/
theorem r_until {e : EV} {w : WD} {xf : Int32 → List Int32} {c d : Int32} {rest : PL2} {f : Int32} {fl : List Int32} {ρ0 : List Int32} {x : Int32} {g p q F n : Int32} {σ μ : mS} (Z : ZRok e) {M rk : Nat} (G : GK e M F n rk) (A : PT e w xf c d rest f fl (ρ0 ++ [x]) (-1) g p q F n σ μ) (z : eZ e rk g p q (ρ0 ++ [x]) (-1)) (ho : opx e p 22) (ha : acm e q 42) (hr : nx e (p + 1) = x) (x0 : 0 ≤ x) {j : Nat} (hj : j ≤ ρ0.length) (hv : sI (eμ e) 71 q = Int32.ofNat j) (L1 : lo e rk g (p + 3) (q + 1) (ρ0.take j) (-1)) (L2 : lo e rk g (nx e (p + 2)) (sI (eμ e) 72 q) (ρ0.take j) (-1)) : Good e (M + 3000) σ μ := by
  have hx := PT_x A ho (fun s => rfl)
  have hm := act_f A ha
  rw [af_42, act_g A ha, mf_42] at hm
  have S := PT_s A 3
  have e3 : mff (actP μ (n - 1) q) (n - 1) 3 = mff μ (n - 1) 3 := mf_I actP_fr rfl
  rw [← e3, hv] at hm
  have o := ops_1 ho.1.1 ho.1.2
  have f01 := (PT_N A).1
  have k01 := (PT_N A).2.1
  have h256 := fun i => xP_256 S.1 i
  rw [sf_22, gd_in (by decide) o.1.1 o.1.2, h256, hr] at hx
  generalize xP σ f p 3 = τ at hx S h256
  clear e3
  generalize actP μ (n - 1) q = τm at hm S
  have e411 : τ.1 411 = f := S.2.2
  obtain ⟨b, hb, t1, i1, i2, t2, S2⟩ := test_2 (N := eN e) (N' := eN e) S (zk_of Z z) x0
  have A3 := PT_take S.1 (j := j) (by rw [List.length_append]; omega) rfl
  rw [List.take_append_of_le_length hj] at A3
  have q146 : sI (md_pi τm 143 (mff τm (n - 1) 3 + Int32.ofNat j)) 146 (n - 1) = q + 1 := by
    have := A3.2.2.2.1
    rw [A3.2.2.2.2.2] at this
    exact this
  rw [t1, bd_so, i1, bd_so] at hx
  simp only [lt, sF_fold, sG_fold, sI_fold, sJ_fold, sF_pi, sF_pl, sF_ai, sF_al, sG_pi, sG_pl, sG_ai, sG_al, sI_pi, sI_pl, sI_al, sI_ai1, sI_ai2, sJ_pi, sJ_pl, sJ_ai, sJ_al1, sJ_al2, Nat.reduceEqDiff, if_true, if_false, ne_eq, not_false_eq_true, ite_true, ite_false] at hm
  rw [gd_in (by decide) t2.1 t2.2, gd_in (by decide) t2.1 t2.2, i2, bd_so] at hm
  rcases hb with rfl | rfl
  · rw [if_pos rfl, gd_in (by decide) o.2.1.1 o.2.1.2, e411, gd_in (by decide) f01.1 f01.2, h256, lt] at hx
    rw [if_pos rfl, mm_actMore_797, gd_in (by decide) k01.1 k01.2, lt, mm_actMore_926, bd_so] at hm
    exact Good_2 A hx hm (GK_lo G (PT_jm (PT_go A3 _) _) L2)
  · rw [if_neg n10] at hx
    rw [if_neg n10, gd_in (by decide) k01.1 k01.2, mm_actMore_797, gd_in (by decide) k01.1 k01.2, lt, mm_actMore_926, bd_so] at hm
    exact Good_2 A hx hm (GK_lo G (PT_jm A3 _) (cast (congrArg (fun t => lo e rk g (p + 3) t (ρ0.take j) (-1)) (show q + 1 = sI ((1, τm) : Int32 × mS).snd 146 (n - 1) from q146.symm)) L1))
/-- NOT -/
theorem r_not {e : EV} {w : WD} {xf : Int32 → List Int32} {c d : Int32} {rest : PL2} {f : Int32} {fl : List Int32} {ρ0 : List Int32} {x : Int32} {g p q F n : Int32} {σ μ : mS} (Z : ZRok e) {M rk : Nat} (G : GK e M F n rk) (A : PT e w xf c d rest f fl (ρ0 ++ [x]) (-1) g p q F n σ μ) (z : eZ e rk g p q (ρ0 ++ [x]) (-1)) (ho : opx e p 20) (ha : acm e q 27) (hr : nx e (p + 2) = x) (x0 : 0 ≤ x) (ok : okr ρ0 (nx e (p + 1)) 1 (sI (eσ e) 261 g)) (L : lo e rk g (p + 3) (q + 1) (ρ0 ++ [nx e (p + 1)]) (-1)) : Good e (M + 3000) σ μ := by
  have hx := PT_x A ho (fun s => rfl)
  have hm := act_f A ha
  have k70 := act_k A ha
  rw [af_27, act_g A ha, mf_27, k70.1, gd_tt, k70.2, mm_one] at hm
  have S := PT_s A 3
  have o := ops_1 ho.1.1 ho.1.2
  have h256 := fun i => xP_256 S.1 i
  rw [sf_20, gd_in (by decide) o.1.1 o.1.2, gd_in (by decide) o.2.1.1 o.2.1.2, h256, hr] at hx
  generalize xP σ f p 3 = τ at hx S h256
  generalize actP μ (n - 1) q = τm at hm S
  obtain ⟨b, hb, t1, i1, i2, t2, S2⟩ := test_2 (N := eN e) (N' := eN e) S (zk_of Z z) x0
  rw [t1, bd_so, i1, bd_so] at hx
  simp only [lt, sF_fold, sG_fold, sI_fold, sJ_fold, sF_pi, sF_pl, sF_ai, sF_al, sG_pi, sG_pl, sG_ai, sG_al, sI_pi, sI_pl, sI_al, sI_ai1, sI_ai2, sJ_pi, sJ_pl, sJ_ai, sJ_al1, sJ_al2, Nat.reduceEqDiff, if_true, if_false, ne_eq, not_false_eq_true, ite_true, ite_false] at hm
  rw [gd_in (by decide) t2.1 t2.2, gd_in (by decide) t2.1 t2.2, i2, bd_so] at hm
  rcases hb with rfl | rfl
  · obtain ⟨p1, p2, p3⟩ := push_1 (N := eN e) (N' := eN e) S2 (zk_l (zk_of Z z)) ok (VV_truth (w := w) (a := 1) (.inr rfl))
    rw [if_pos rfl, xx6_step_b396, h256, xx6_setTruth, if_neg (by decide), xx6_setTruth_b11] at hx
    rw [if_pos rfl, mm_one_45] at hm
    rw [if_pos rfl] at p1 p3
    exact Good_2 A (hx.trans (by rw [p1]; rfl)) (hm.trans (by rw [show (1 : Int64) = Int32.toInt64 1 from rfl, p2]; rfl)) (GK_lo G p3.1 L)
  · obtain ⟨p1, p2, p3⟩ := push_1 (N := eN e) (N' := eN e) S2 (zk_l (zk_of Z z)) ok (VV_truth (w := w) (a := 0) (.inl rfl))
    rw [if_neg n10, xx6_step_b396, h256, xx6_setTruth, if_pos rfl, xx6_setTruth_b11] at hx
    rw [if_neg n10, mm_one_45] at hm
    rw [if_neg (by decide)] at p1 p3
    exact Good_2 A (hx.trans (by rw [p1]; rfl)) (hm.trans (by rw [show (0 : Int64) = Int32.toInt64 0 from rfl, p2]; rfl)) (GK_lo G p3.1 L)
