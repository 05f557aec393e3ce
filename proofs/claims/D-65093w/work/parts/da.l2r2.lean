/-! LAYER 2: step rules: the pile alone; jumps -/
theorem PT_mk {e : EV} {w : WD} {xf : Int32 → List Int32} {c d : Int32} {rest : PL2} {f : Int32} {fl : List Int32} {ρ ρ' : List Int32} {m m' : Int32} {g p q p' q' F n : Int32} {σ μ τ τm : mS} (A : PT e w xf c d rest f fl ρ m g p q F n σ μ) (x : xtc f (sI (eσ e) 261 g) σ τ) (y : mtc (n - 1) (mff μ (n - 1) 3) μ τm) (hp : sI τ 346 f = p') (hq : sI τm 146 (n - 1) = q') (T : TP w τ τm f (n - 1) ρ' m') : PT e w xf c d rest f fl ρ' m' g p' q' F n τ τm := by
  have R := PT_R A
  obtain ⟨⟨H, _⟩, a1, a2, a3, a4, a5⟩ := A
  have e154 : sF τm 154 = n := (mf_F y.1 (nT_f (by omega))).trans a5
  refine ⟨⟨MR0_tc H (by rw [R]; exact x) (by rw [a5]; exact y), by rw [e154]; exact T⟩, (mf_I x.1 (xT_f (by omega))).trans a1, hp, by rw [e154]; exact hq, (mf_F x.1 (xT_f (by omega))).trans a4, e154⟩
/-- the values of the top call, one by one -/
theorem TP_1 {w : WD} {σ μ : mS} {f k : Int32} {ρ : List Int32} (T : TP w σ μ f k ρ (-1)) : RG w σ f (sI μ 141) (sJ μ 142) (mff μ k 3) ρ ∧ sF μ 143 = mff μ k 3 + Int32.ofNat ρ.length := by
  rcases T with ⟨_, T1, T2⟩ | ⟨h, _⟩ | ⟨h, _⟩
  · exact ⟨T1, T2⟩
  · exact absurd h (by decide)
  · exact absurd h (by decide)
/-- numbers of the top call -/
theorem PT_N {e : EV} {w : WD} {xf : Int32 → List Int32} {c d : Int32} {rest : PL2} {f : Int32} {fl : List Int32} {ρ : List Int32} {m : Int32} {g p q F n : Int32} {σ μ : mS} (A : PT e w xf c d rest f fl ρ m g p q F n σ μ) : (0 ≤ f ∧ f < 202) ∧ (0 ≤ n - 1 ∧ n - 1 < 256) ∧ (0 ≤ mff μ (n - 1) 3 ∧ mff μ (n - 1) 3 ≤ 460000) ∧ (1 ≤ n ∧ n ≤ 200) := by
  have b := MR0_f A.1.1
  rw [A.2.2.2.2.2] at b
  have b5 := b.2.2.2.2
  exact ⟨b.1, at_1 b.2.2.2.1.1 b.2.2.2.1.2, ⟨Int32.le_trans b5.1 (Int32.le_of_lt b5.2.1), b5.2.2⟩, b.2.2.2.1⟩
/-- where the j-th value lies -/
theorem pl_1 {B : Int32} {j k : Nat} (b0 : 0 ≤ B) (b1 : B ≤ 460000) (hj : j ≤ 3000) (hk : k ≤ 3000) : (0 ≤ B + Int32.ofNat j ∧ B + Int32.ofNat j < 500000) ∧ (B + Int32.ofNat j = B + Int32.ofNat k ↔ j = k) ∧ B ≤ B + Int32.ofNat j ∧ (B + Int32.ofNat (j + 1) - 1 = B + Int32.ofNat j) := by
  have e1 : (Int32.ofNat j).toInt = j := tI_lit (by omega)
  have e2 : (Int32.ofNat k).toInt = k := tI_lit (by omega)
  have e3 : (Int32.ofNat (j + 1)).toInt = (j + 1 : Nat) := tI_lit (by omega)
  rw [tI_le] at b0 b1
  have z0 : (0 : Int32).toInt = 0 := rfl
  have z1 : (1 : Int32).toInt = 1 := rfl
  have z5 : (500000 : Int32).toInt = 500000 := rfl
  have z4 : (460000 : Int32).toInt = 460000 := rfl
  have a1 : (B + Int32.ofNat j).toInt = B.toInt + j := by rw [tI_add] <;> omega
  have a2 : (B + Int32.ofNat k).toInt = B.toInt + k := by rw [tI_add] <;> omega
  have a3 : (B + Int32.ofNat (j + 1)).toInt = B.toInt + (j + 1 : Nat) := by rw [tI_add] <;> omega
  refine ⟨⟨by rw [tI_le]; omega, by rw [tI_lt]; omega⟩, ⟨fun h => by rw [tI_eq] at h; omega, fun h => by rw [h]⟩, by rw [tI_le]; omega, by rw [tI_eq, tI_sub] <;> omega⟩
/-- the system goes elsewhere -/
theorem PT_go {e : EV} {w : WD} {xf : Int32 → List Int32} {c d : Int32} {rest : PL2} {f : Int32} {fl : List Int32} {ρ : List Int32} {m : Int32} {g p q F n : Int32} {σ μ : mS} (A : PT e w xf c d rest f fl ρ m g p q F n σ μ) (t : Int32) : PT e w xf c d rest f fl ρ m g t q F n (md_ai σ 346 f.toNatClampNeg t) μ := by
  have f01 := (PT_N A).1
  have fr : m_fr (fun k => [346].contains k) σ (md_ai σ 346 f.toNatClampNeg t) := mf_ai mf_rfl rfl
  have x : xtc f (sI (eσ e) 261 g) σ (md_ai σ 346 f.toNatClampNeg t) := by
    refine ⟨mf_ai mf_rfl rfl, fun k hk g g0 gf => ?_, fun i _ _ => ⟨mf_I fr rfl, mf_J fr rfl⟩⟩
    rcases hk with rfl | rfl | rfl | rfl
    · exact mf_I fr rfl
    · rw [sI_aj f01.1 g0, if_neg gf]
    · exact mf_I fr rfl
    · exact mf_I fr rfl
  have T := A.1.2
  rw [A.2.2.2.2.2] at T
  have hq := A.2.2.2.1
  rw [A.2.2.2.2.2] at hq
  exact PT_mk A x mtc_rfl (by rw [sI_aj f01.1 f01.1, if_pos rfl]) hq (TP_P (Q := fun _ => false) T fr mf_rfl (fun k hk => by rcases hk with rfl | rfl | rfl | rfl <;> rfl) (fun k _ => rfl))
/-- the reference goes elsewhere -/
theorem PT_jm {e : EV} {w : WD} {xf : Int32 → List Int32} {c d : Int32} {rest : PL2} {f : Int32} {fl : List Int32} {ρ : List Int32} {m : Int32} {g p q F n : Int32} {σ μ : mS} (A : PT e w xf c d rest f fl ρ m g p q F n σ μ) (t : Int32) : PT e w xf c d rest f fl ρ m g p t F n σ (md_ai μ 146 (n - 1).toNatClampNeg t) := by
  have k0 := (PT_N A).2.1.1
  have fr : m_fr (fun k => [146].contains k) μ (md_ai μ 146 (n - 1).toNatClampNeg t) := mf_ai mf_rfl rfl
  have y : mtc (n - 1) (mff μ (n - 1) 3) μ (md_ai μ 146 (n - 1).toNatClampNeg t) := by
    refine ⟨mf_ai mf_rfl rfl, fun j hj i i0 ik => ?_, fun i _ _ => ⟨mf_I fr rfl, mf_J fr rfl⟩⟩
    rcases hj with rfl | rfl | rfl
    · rw [sI_aj k0 i0, if_neg (fun q => by rw [q] at ik; exact Int32.lt_irrefl ik)]
    · exact mf_I fr rfl
    · exact mf_I fr rfl
  have T := A.1.2
  rw [A.2.2.2.2.2] at T
  exact PT_mk A xtc_rfl y A.2.2.1 (by rw [sI_aj k0 k0, if_pos rfl]) (TP_P (P := fun _ => false) T mf_rfl fr (fun k _ => rfl) (fun k hk => by rcases hk with rfl | rfl | rfl | rfl | rfl <;> rfl))
/-- only the first j values stay -/
theorem PT_take {e : EV} {w : WD} {xf : Int32 → List Int32} {c d : Int32} {rest : PL2} {f : Int32} {fl : List Int32} {ρ : List Int32} {g p q F n : Int32} {σ μ : mS} (A : PT e w xf c d rest f fl ρ (-1) g p q F n σ μ) {j : Nat} (hj : j ≤ ρ.length) {t : Int32} (ht : t = mff μ (n - 1) 3 + Int32.ofNat j) : PT e w xf c d rest f fl (ρ.take j) (-1) g p q F n σ (md_pi μ 143 t) := by
  have fr : m_fr (fun k => [143].contains k) μ (md_pi μ 143 t) := mf_pi mf_rfl rfl
  have y : mtc (n - 1) (mff μ (n - 1) 3) μ (md_pi μ 143 t) := ⟨mf_pi mf_rfl rfl, fun j hj i _ _ => by rcases hj with rfl | rfl | rfl <;> exact mf_I fr rfl, fun i _ _ => ⟨mf_I fr rfl, mf_J fr rfl⟩⟩
  have T := A.1.2
  rw [A.2.2.2.2.2] at T
  have hq := A.2.2.2.1
  rw [A.2.2.2.2.2] at hq
  obtain ⟨T1, T2⟩ := TP_1 T
  have e3 : mff (md_pi μ 143 t) (n - 1) 3 = mff μ (n - 1) 3 := mf_I fr rfl
  refine PT_mk A xtc_rfl y A.2.2.1 ((mf_I fr rfl).trans hq) (.inl ⟨rfl, ?_, ?_⟩)
  · rw [e3]
    have e : ρ = ρ.take j ++ ρ.drop j := (List.take_append_drop j ρ).symm
    rw [e] at T1
    have := (RG_app.mp T1).1
    exact RG_cg this wle_rfl (fun _ _ _ => ⟨rfl, rfl⟩) (fun _ _ => ⟨mf_I fr rfl, mf_J fr rfl⟩)
  · rw [e3, List.length_take, Nat.min_eq_left hj]
    simp only [sF_pi, sF_pl, sF_ai, sF_al, sG_pi, sG_pl, sG_ai, sG_al, sI_pi, sI_pl, sI_al, sI_ai1, sI_ai2, sJ_pi, sJ_pl, sJ_ai, sJ_al1, sJ_al2, Nat.reduceEqDiff, if_true, if_false, ne_eq, not_false_eq_true, ite_true, ite_false]
    exact ht
/-- the value on top -/
theorem PT_top {e : EV} {w : WD} {xf : Int32 → List Int32} {c d : Int32} {rest : PL2} {f : Int32} {fl : List Int32} {ρ0 : List Int32} {x : Int32} {g p q F n : Int32} {σ μ : mS} (A : PT e w xf c d rest f fl (ρ0 ++ [x]) (-1) g p q F n σ μ) (z1 : (ρ0 ++ [x]).length ≤ 2000) : RV w σ f x (sI μ 141 (sF μ 143 - 1)) (sJ μ 142 (sF μ 143 - 1)) ∧ (0 ≤ sF μ 143 - 1 ∧ sF μ 143 - 1 < 500000) ∧ sF μ 143 - 1 = mff μ (n - 1) 3 + Int32.ofNat ρ0.length ∧ PT e w xf c d rest f fl ρ0 (-1) g p q F n σ (md_pi μ 143 (sF μ 143 - 1)) := by
  have T := A.1.2
  rw [A.2.2.2.2.2] at T
  obtain ⟨T1, T2⟩ := TP_1 T
  have N := PT_N A
  rw [List.length_append] at z1
  simp only [List.length_singleton] at z1
  have P := pl_1 (j := ρ0.length) (k := 0) N.2.2.1.1 N.2.2.1.2 (by omega) (by omega)
  have e : sF μ 143 - 1 = mff μ (n - 1) 3 + Int32.ofNat ρ0.length := by rw [T2, List.length_append, List.length_singleton]; exact P.2.2.2
  refine ⟨?_, by rw [e]; exact P.1, e, ?_⟩
  · rw [e]; exact RG_one.mp (RG_app.mp T1).2
  · have := PT_take A (j := ρ0.length) (by simp) e
    rw [List.take_left'] at this
    · exact this
    · rfl
theorem RV_V {w : WD} {σ : mS} {f x tm : Int32} {vm : Int64} (h : RV w σ f x tm vm) (x0 : 0 ≤ x) : VV w (xt σ f x) (xv σ f x) tm vm := by
  rcases h with ⟨h, _⟩ | ⟨_, h⟩ | ⟨h, _⟩ | ⟨h, _⟩ | ⟨h, _⟩
  · rw [h] at x0; exact absurd x0 (by decide)
  · exact h
  · exact absurd (Int32.le_trans x0 h) (by decide)
  · exact absurd (Int32.le_trans x0 h) (by decide)
  · exact absurd (Int32.le_trans x0 h) (by decide)
/-- truths -/
theorem truth_x {N : Nat} {σ : mS} {t : Int32} : xx6_isTrue N σ t = some (if 1 < t then 1 else 0, σ) := by
  rw [xx6_isTrue]
  by_cases c : t ≤ 1
  · rw [if_pos c, if_neg (Int32.not_lt.mpr c)]; rfl
  · rw [if_neg c, if_pos (Int32.not_le.mp c)]; rfl
theorem truth_2 {N : Nat} {w : WD} {σ μ : mS} {tx tm : Int32} {vx vm : Int64} (v : VV w tx vx tm vm) : ∃ b : Int32, (b = 0 ∨ b = 1) ∧ xx6_isTrue N σ tx = some (b, σ) ∧ mm_isTrue N μ tm vm = some (b, μ) := by
  have t := VV_true v
  rw [truth_x, isTrue_m]
  by_cases c : 1 < tx
  · rw [if_pos c, if_neg (t.mp c)]; exact ⟨1, .inr rfl, rfl, rfl⟩
  · rw [if_neg c, if_pos (Decidable.byContradiction (fun h => c (t.mpr h)))]; exact ⟨0, .inl rfl, rfl, rfl⟩
theorem sJ_lj {μ : mS} {k : Nat} {i m : Int32} {v : Int64} (i0 : 0 ≤ i) (m0 : 0 ≤ m) : sJ (md_al μ k i.toNatClampNeg v) k m = if m = i then v else sJ μ k m := by
  simp only [sJ]
  rw [al_J, if_pos rfl, updL_at]
  by_cases q : m = i
  · rw [if_pos q, q, if_pos rfl]
  · rw [if_neg q, if_neg (fun h => q (cl_inj m0 i0 h))]
/-- a place of the pile is written -/
def mW (μ : mS) (i t : Int32) (v : Int64) : mS := md_al (md_ai μ 141 i.toNatClampNeg t) 142 i.toNatClampNeg v
theorem mW_fr {μ : mS} {i t : Int32} {v : Int64} : m_fr (fun k => [141, 142].contains k) μ (mW μ i t v) := mf_al (mf_ai mf_rfl rfl) rfl
theorem mW_I {μ : mS} {i t m : Int32} {v : Int64} (i0 : 0 ≤ i) (m0 : 0 ≤ m) : sI (mW μ i t v) 141 m = if m = i then t else sI μ 141 m := by
  rw [show sI (mW μ i t v) 141 m = sI (md_ai μ 141 i.toNatClampNeg t) 141 m from rfl, sI_aj i0 m0]
theorem mW_J {μ : mS} {i t m : Int32} {v : Int64} (i0 : 0 ≤ i) (m0 : 0 ≤ m) : sJ (mW μ i t v) 142 m = if m = i then v else sJ μ 142 m := by
  rw [mW, sJ_lj i0 m0]; rfl
theorem mW_tc {μ : mS} {k0 B i t : Int32} {v : Int64} (i0 : 0 ≤ i) (h : B ≤ i) : mtc k0 B μ (mW μ i t v) := by
  refine ⟨mf_al (mf_ai mf_rfl rfl) rfl, fun k hk j _ _ => ?_, fun j j0 jB => ⟨?_, ?_⟩⟩
  · rcases hk with rfl | rfl | rfl <;> exact mf_I mW_fr rfl
  · rw [mW_I i0 j0, if_neg (fun q => by rw [q] at jB; exact Int32.lt_irrefl (Int32.lt_of_lt_of_le jB h))]
  · rw [mW_J i0 j0, if_neg (fun q => by rw [q] at jB; exact Int32.lt_irrefl (Int32.lt_of_lt_of_le jB h))]
theorem m143_tc {μ : mS} {k0 B t : Int32} : mtc k0 B μ (md_pi μ 143 t) := by
  have fr : m_fr (fun k => [143].contains k) μ (md_pi μ 143 t) := mf_pi mf_rfl rfl
  exact ⟨mf_pi mf_rfl rfl, fun j hj i _ _ => by rcases hj with rfl | rfl | rfl <;> exact mf_I fr rfl, fun i _ _ => ⟨mf_I fr rfl, mf_J fr rfl⟩⟩
/-- the pile is changed, above the call's beginning -/
theorem PT_pile {e : EV} {w : WD} {xf : Int32 → List Int32} {c d : Int32} {rest : PL2} {f : Int32} {fl : List Int32} {ρ : List Int32} {g p q F n : Int32} {σ μ : mS} (A : PT e w xf c d rest f fl ρ (-1) g p q F n σ μ) {τm : mS} {ρ' : List Int32} {q' : Int32} (y : mtc (n - 1) (mff μ (n - 1) 3) μ τm) (hq : sI τm 146 (n - 1) = q') (hl : sF τm 143 = mff μ (n - 1) 3 + Int32.ofNat ρ'.length) (h : ∀ j, j < ρ'.length → RV w σ f (ρ'.getD j 0) (sI τm 141 (mff μ (n - 1) 3 + Int32.ofNat j)) (sJ τm 142 (mff μ (n - 1) 3 + Int32.ofNat j))) : PT e w xf c d rest f fl ρ' (-1) g p q' F n σ τm := by
  have e3 : mff τm (n - 1) 3 = mff μ (n - 1) 3 := mf_I (k := 147) y.1 (nT_f (by omega))
  exact PT_mk A xtc_rfl y A.2.2.1 hq (.inl ⟨rfl, by rw [e3]; exact RG_of h, by rw [e3]; exact hl⟩)
/-- the values of a point, one by one -/
theorem PT_at {e : EV} {w : WD} {xf : Int32 → List Int32} {c d : Int32} {rest : PL2} {f : Int32} {fl : List Int32} {ρ : List Int32} {g p q F n : Int32} {σ μ : mS} (A : PT e w xf c d rest f fl ρ (-1) g p q F n σ μ) (h3 : ρ.length ≤ 2000) : (∀ j, j < ρ.length → RV w σ f (ρ.getD j 0) (sI μ 141 (mff μ (n - 1) 3 + Int32.ofNat j)) (sJ μ 142 (mff μ (n - 1) 3 + Int32.ofNat j))) ∧ sF μ 143 = mff μ (n - 1) 3 + Int32.ofNat ρ.length ∧ ρ.length ≤ 2000 ∧ sI μ 146 (n - 1) = q ∧ (∀ j, j ≤ 3000 → ∀ k, k ≤ 3000 → (0 ≤ mff μ (n - 1) 3 + Int32.ofNat j ∧ mff μ (n - 1) 3 + Int32.ofNat j < 500000) ∧ (mff μ (n - 1) 3 + Int32.ofNat j = mff μ (n - 1) 3 + Int32.ofNat k ↔ j = k) ∧ mff μ (n - 1) 3 ≤ mff μ (n - 1) 3 + Int32.ofNat j ∧ (mff μ (n - 1) 3 + Int32.ofNat (j + 1) - 1 = mff μ (n - 1) 3 + Int32.ofNat j)) := by
  have T := A.1.2
  rw [A.2.2.2.2.2] at T
  obtain ⟨T1, T2⟩ := TP_1 T
  have N := PT_N A
  have hq := A.2.2.2.1
  rw [A.2.2.2.2.2] at hq
  exact ⟨fun j hj => RG_at T1 hj, T2, h3, hq, fun j hj k hk => pl_1 N.2.2.1.1 N.2.2.1.2 hj hk⟩
theorem set_at {l : List Int32} {j i : Nat} {x : Int32} (h : i < l.length) : (l.set j x).getD i 0 = if i = j then x else l.getD i 0 := by
  simp only [List.getD_eq_getElem?_getD, List.getElem?_set]
  by_cases c : j = i
  · subst c; rw [if_pos rfl, if_pos rfl, if_pos h]; rfl
  · rw [if_neg c, if_neg (fun q => c q.symm)]
theorem app_at {l : List Int32} {i : Nat} {x : Int32} (h : i < l.length) : (l ++ [x]).getD i 0 = l.getD i 0 := by
  simp only [List.getD_eq_getElem?_getD]
  rw [List.getElem?_append_left h]
theorem app_ln {l : List Int32} {x : Int32} : (l ++ [x]).getD l.length 0 = x := by
  simp [List.getD_eq_getElem?_getD]
theorem RV_n {w : WD} {σ : mS} {f x tm : Int32} {vm : Int64} (h : RV w σ f x tm vm) : 0 ≤ tm ∧ tm ≤ 8 := by
  rcases h with ⟨_, h⟩ | ⟨_, h⟩ | ⟨_, _, h, _⟩ | ⟨_, h, _⟩ | ⟨_, h, _⟩
  · rw [h]; exact ⟨by decide, by decide⟩
  · exact (VV_t8 h).2
  · rw [h]; exact ⟨by decide, by decide⟩
  · rw [h]; exact ⟨by decide, by decide⟩
  · exact (VV_t8 h).2
/-- a tag that lies on the pile stays what it is -/
theorem tag_b {t : Int32} (h0 : 0 ≤ t) (h1 : t ≤ 8) : vp_nar .byte t = t := by
  have := B_nar (t.toInt8.toInt32)
  rw [nar_tag h0 h1] at this
  exact nar_B this
theorem RV_b {w : WD} {σ : mS} {f x tm : Int32} {vm : Int64} (h : RV w σ f x tm vm) : vp_nar .byte tm = tm := by
  exact tag_b (RV_n h).1 (RV_n h).2
/-- NEW_LOCAL -/
theorem r_new {e : EV} {w : WD} {xf : Int32 → List Int32} {c d : Int32} {rest : PL2} {f : Int32} {fl : List Int32} {ρ : List Int32} {m : Int32} {g p q F n : Int32} {σ μ : mS} {M rk : Nat} (G : GK e M F n rk) (A : PT e w xf c d rest f fl ρ m g p q F n σ μ) (ha : acm e q 7) (L : lo e rk g p (q + 1) ρ m) : Good e (M + 3000) σ μ := Good_m A (by rw [act_f A ha, af_7]; rfl) (GK_lo G (ST_m A) L)
/-- JUMP -/
theorem r_jump {e : EV} {w : WD} {xf : Int32 → List Int32} {c d : Int32} {rest : PL2} {f : Int32} {fl : List Int32} {ρ : List Int32} {m : Int32} {g p q F n : Int32} {σ μ : mS} {M rk : Nat} (G : GK e M F n rk) (A : PT e w xf c d rest f fl ρ m g p q F n σ μ) (ha : acm e q 28) (L : lo e rk g p (sI (eμ e) 71 q) ρ m) : Good e (M + 3000) σ μ := by
  have k := (PT_N A).2.1
  refine Good_m A (τm := md_ai (actP μ (n - 1) q) 146 (n - 1).toNatClampNeg (sI (eμ e) 71 q)) ?_ (GK_lo G (PT_jm (ST_m A) _) L)
  rw [act_f A ha, af_28, act_g A ha, mf_28, gd_in (by decide) k.1 k.2, lt]; rfl
theorem b_p1 {B : Int32} {n : Nat} : B + Int32.ofNat n + 1 = B + Int32.ofNat (n + 1) := by rw [← oN_s]; lia
/-- one value more on the reference's side -/
theorem push_m1 {e : EV} {w : WD} {xf : Int32 → List Int32} {c d : Int32} {rest : PL2} {f : Int32} {fl : List Int32} {ρ : List Int32} {g p q F n : Int32} {σ μ : mS} (A : PT e w xf c d rest f fl ρ (-1) g p q F n σ μ) (h3 : ρ.length ≤ 2000) {x t : Int32} {v : Int64} (rv : RV w σ f x t v) {N : Nat} : mm_push N μ t v = some (mPu μ t v) ∧ PT e w xf c d rest f fl (ρ ++ [x]) (-1) g p q F n σ (mPu μ t v) := by
  obtain ⟨h1, h2, _, h4, h5⟩ := PT_at A h3
  have t8 := RV_n rv
  have bl := h5 ρ.length (by omega) 0 (by omega)
  rw [← h2] at bl
  refine ⟨push_m bl.1.1 bl.1.2 t8.1 t8.2, PT_pile A (mtc_tr (mW_tc bl.1.1 bl.2.2.1) m143_tc) ((mf_I mPu_fr rfl).trans h4) ?_ (fun i hi => ?_)⟩
  · rw [mPu_143, h2, List.length_append, List.length_singleton]; exact b_p1
  · rw [List.length_append, List.length_singleton] at hi
    have bi := h5 i (by omega) ρ.length (by omega)
    rw [show sI (mPu μ t v) 141 (mff μ (n - 1) 3 + Int32.ofNat i) = sI (mW μ (sF μ 143) t v) 141 (mff μ (n - 1) 3 + Int32.ofNat i) from rfl, show sJ (mPu μ t v) 142 (mff μ (n - 1) 3 + Int32.ofNat i) = sJ (mW μ (sF μ 143) t v) 142 (mff μ (n - 1) 3 + Int32.ofNat i) from rfl, mW_I bl.1.1 bi.1.1, mW_J bl.1.1 bi.1.1, h2]
    by_cases c : i < ρ.length
    · rw [if_neg (fun q => by have := bi.2.1.mp q; omega), if_neg (fun q => by have := bi.2.1.mp q; omega), app_at c]
      exact h1 i c
    · have ei : i = ρ.length := by omega
      rw [ei, if_pos rfl, if_pos rfl, app_ln]
      exact rv
/-- a place of the pile is written -/
theorem set_m1 {e : EV} {w : WD} {xf : Int32 → List Int32} {c d : Int32} {rest : PL2} {f : Int32} {fl : List Int32} {ρ : List Int32} {g p q F n : Int32} {σ μ : mS} (A : PT e w xf c d rest f fl ρ (-1) g p q F n σ μ) (h3 : ρ.length ≤ 2000) {x t : Int32} {v : Int64} (rv : RV w σ f x t v) {j : Nat} (hj : j < ρ.length) : PT e w xf c d rest f fl (ρ.set j x) (-1) g p q F n σ (mW μ (mff μ (n - 1) 3 + Int32.ofNat j) t v) := by
  have N := PT_N A
  have T := A.1.2
  rw [A.2.2.2.2.2] at T
  obtain ⟨T1, T2⟩ := TP_1 T
  have hq := A.2.2.2.1
  rw [A.2.2.2.2.2] at hq
  have bj := pl_1 (j := j) (k := 0) N.2.2.1.1 N.2.2.1.2 (by omega) (by omega)
  refine PT_pile A (mW_tc bj.1.1 bj.2.2.1) ((mf_I mW_fr rfl).trans hq) ?_ (fun i hi => ?_)
  · rw [List.length_set]; exact T2
  · rw [List.length_set] at hi
    have bi := pl_1 (j := i) (k := j) N.2.2.1.1 N.2.2.1.2 (by omega) (by omega)
    rw [mW_I bj.1.1 bi.1.1, mW_J bj.1.1 bi.1.1, set_at hi]
    by_cases c : i = j
    · rw [if_pos (bi.2.1.mpr c), if_pos (bi.2.1.mpr c), if_pos c]; exact rv
    · rw [if_neg (fun q => c (bi.2.1.mp q)), if_neg (fun q => c (bi.2.1.mp q)), if_neg c]; exact RG_at T1 hi
/-- a place of the pile is given up -/
theorem gone_m1 {e : EV} {w : WD} {xf : Int32 → List Int32} {c d : Int32} {rest : PL2} {f : Int32} {fl : List Int32} {ρ : List Int32} {g p q F n : Int32} {σ μ : mS} (A : PT e w xf c d rest f fl ρ (-1) g p q F n σ μ) (h3 : ρ.length ≤ 2000) {j : Nat} (hj : j < ρ.length) {N : Nat} : mm_gone N μ (mff μ (n - 1) 3 + Int32.ofNat j) = some (md_ai μ 141 (mff μ (n - 1) 3 + Int32.ofNat j).toNatClampNeg 0) ∧ PT e w xf c d rest f fl (ρ.set j (-1)) (-1) g p q F n σ (md_ai μ 141 (mff μ (n - 1) 3 + Int32.ofNat j).toNatClampNeg 0) := by
  have N := PT_N A
  have T := A.1.2
  rw [A.2.2.2.2.2] at T
  obtain ⟨T1, T2⟩ := TP_1 T
  have hq := A.2.2.2.1
  rw [A.2.2.2.2.2] at hq
  have bj := pl_1 (j := j) (k := 0) N.2.2.1.1 N.2.2.1.2 (by omega) (by omega)
  have y : mtc (n - 1) (mff μ (n - 1) 3) μ (md_ai μ 141 (mff μ (n - 1) 3 + Int32.ofNat j).toNatClampNeg 0) := by
    have fr : m_fr (fun k => [141].contains k) μ (md_ai μ 141 (mff μ (n - 1) 3 + Int32.ofNat j).toNatClampNeg 0) := mf_ai mf_rfl rfl
    refine ⟨mf_ai mf_rfl rfl, fun k hk i _ _ => by rcases hk with rfl | rfl | rfl <;> exact mf_I fr rfl, fun i i0 iB => ⟨?_, mf_J fr rfl⟩⟩
    rw [sI_aj bj.1.1 i0, if_neg (fun q => by rw [q] at iB; exact Int32.lt_irrefl (Int32.lt_of_lt_of_le iB bj.2.2.1))]
  refine ⟨by rw [mm_gone, gd_in (by decide) bj.1.1 bj.1.2, tag_b (by decide) (by decide), lt], PT_pile A y hq ?_ (fun i hi => ?_)⟩
  · rw [List.length_set]; exact T2
  · rw [List.length_set] at hi
    have bi := pl_1 (j := i) (k := j) N.2.2.1.1 N.2.2.1.2 (by omega) (by omega)
    rw [sI_aj bj.1.1 bi.1.1, set_at hi]
    by_cases c : i = j
    · rw [if_pos (bi.2.1.mpr c), if_pos c]; exact .inl ⟨rfl, rfl⟩
    · rw [if_neg (fun q => c (bi.2.1.mp q)), if_neg c]; exact RG_at T1 hi
/-- GET_LOCAL -/
theorem r_get {e : EV} {w : WD} {xf : Int32 → List Int32} {c d : Int32} {rest : PL2} {f : Int32} {fl : List Int32} {ρ : List Int32} {g p q F n : Int32} {σ μ : mS} (Z : ZRok e) {M rk : Nat} (G : GK e M F n rk) (A : PT e w xf c d rest f fl ρ (-1) g p q F n σ μ) (z : eZ e rk g p q ρ (-1)) (ha : acm e q 5) {j : Nat} (hj : j < ρ.length) (hv : sI (eμ e) 71 q = Int32.ofNat j) (L : lo e rk g p (q + 1) (ρ ++ [ρ.getD j 0]) (-1)) : Good e (M + 3000) σ μ := by
  have A1 := ST_m A
  have e3 : mff (actP μ (n - 1) q) (n - 1) 3 = mff μ (n - 1) 3 := mf_I actP_fr rfl
  have hm := act_f A ha
  rw [← e3, hv] at hm
  generalize actP μ (n - 1) q = τ at A1 hm
  obtain ⟨h1, h2, h3, h4, h5⟩ := PT_at A1 (Z _ _ _ _ _ _ z).1
  have b := h5 j (by omega) 0 (by omega)
  obtain ⟨p1, p2⟩ := push_m1 (N := eN e) A1 (Z _ _ _ _ _ _ z).1 (h1 j hj)
  refine Good_m A ?_ (GK_lo G p2 L)
  rw [hm, af_5, gd_in (by decide) b.1.1 b.1.2, gd_in (by decide) b.1.1 b.1.2]
  exact (bd_me (fun z => rfl)).trans p1
/-- COPY -/
theorem r_copy {e : EV} {w : WD} {xf : Int32 → List Int32} {c d : Int32} {rest : PL2} {f : Int32} {fl : List Int32} {ρ : List Int32} {g p q F n : Int32} {σ μ : mS} (Z : ZRok e) {M rk : Nat} (G : GK e M F n rk) {ρ0 : List Int32} {x : Int32} (A : PT e w xf c d rest f fl (ρ0 ++ [x]) (-1) g p q F n σ μ) (z : eZ e rk g p q (ρ0 ++ [x]) (-1)) (ha : acm e q 43) (L : lo e rk g p (q + 1) (ρ0 ++ [x] ++ [x]) (-1)) : Good e (M + 3000) σ μ := by
  have A1 := ST_m A
  have hm := act_f A ha
  rw [af_43, act_g A ha, mf_43] at hm
  generalize actP μ (n - 1) q = τ at A1 hm
  obtain ⟨t1, t2, t3, _⟩ := PT_top A1 (Z _ _ _ _ _ _ z).1
  obtain ⟨p1, p2⟩ := push_m1 (N := eN e) A1 (Z _ _ _ _ _ _ z).1 t1
  refine Good_m A ?_ (GK_lo G p2 L)
  rw [hm, show τ.1 143 = sF τ 143 from rfl, gd_in (by decide) t2.1 t2.2, gd_in (by decide) t2.1 t2.2]
  refine (bd_me (fun z => rfl)).trans ((bd_me (fun z => rfl)).trans p1)
/-- SET_LOCAL -/
theorem r_setl {e : EV} {w : WD} {xf : Int32 → List Int32} {c d : Int32} {rest : PL2} {f : Int32} {fl : List Int32} {ρ : List Int32} {g p q F n : Int32} {σ μ : mS} (Z : ZRok e) {M rk : Nat} (G : GK e M F n rk) {ρ0 : List Int32} {x : Int32} (A : PT e w xf c d rest f fl (ρ0 ++ [x]) (-1) g p q F n σ μ) (z : eZ e rk g p q (ρ0 ++ [x]) (-1)) (ha : acm e q 6) {j : Nat} (hj : j < ρ0.length) (hv : sI (eμ e) 71 q = Int32.ofNat j) (L : lo e rk g p (q + 1) (ρ0.set j x) (-1)) : Good e (M + 3000) σ μ := by
  have A1 := ST_m A
  have e3 : mff (actP μ (n - 1) q) (n - 1) 3 = mff μ (n - 1) 3 := mf_I actP_fr rfl
  have hm := act_f A ha
  rw [← e3, hv] at hm
  generalize actP μ (n - 1) q = τ at A1 hm
  obtain ⟨t1, t2, t3, A2⟩ := PT_top A1 (Z _ _ _ _ _ _ z).1
  have h3 := (Z _ _ _ _ _ _ z).1
  rw [List.length_append] at h3
  have A3 := set_m1 A2 (by omega) t1 hj
  have N := PT_N A1
  have bj := pl_1 (j := j) (k := 0) N.2.2.1.1 N.2.2.1.2 (by omega) (by omega)
  refine Good_m A ?_ (GK_lo G A3 L)
  have e143 : (md_pi τ 143 (τ.1 143 - 1)).1 143 = sF τ 143 - 1 := rfl
  rw [hm, af_6, lt, e143, gd_in (by decide) t2.1 t2.2, gd_in (by decide) bj.1.1 bj.1.2]
  have nb : vp_nar .byte ((md_pi τ 143 (τ.1 143 - 1)).2.2.1 141 (sF τ 143 - 1).toNatClampNeg) = sI τ 141 (sF τ 143 - 1) := RV_b t1
  rw [nb, lt, show (md_ai (md_pi τ 143 (τ.1 143 - 1)) 141 (mff τ (n - 1) 3 + Int32.ofNat j).toNatClampNeg (sI τ 141 (sF τ 143 - 1))).1 143 = sF τ 143 - 1 from rfl, gd_in (by decide) t2.1 t2.2, gd_in (by decide) bj.1.1 bj.1.2, lt]
  rfl
/-- DOWN -/
theorem r_down {e : EV} {w : WD} {xf : Int32 → List Int32} {c d : Int32} {rest : PL2} {f : Int32} {fl : List Int32} {ρ : List Int32} {g p q F n : Int32} {σ μ : mS} {M rk : Nat} (G : GK e M F n rk) (A : PT e w xf c d rest f fl ρ (-1) g p q F n σ μ) (ha : acm e q 41) {j : Nat} (hj : j ≤ ρ.length) (hv : sI (eμ e) 71 q = Int32.ofNat j) (L : lo e rk g p (q + 1) (ρ.take j) (-1)) : Good e (M + 3000) σ μ := by
  have A1 := ST_m A
  have e3 : mff (actP μ (n - 1) q) (n - 1) 3 = mff μ (n - 1) 3 := mf_I actP_fr rfl
  have hm := act_f A ha
  rw [af_41, act_g A ha, mf_41, ← e3, hv] at hm
  generalize actP μ (n - 1) q = τ at A1 hm
  exact Good_m A (hm.trans rfl) (GK_lo G (PT_take A1 hj rfl) L)
/-- MOVE_LOCAL -/
theorem r_movl {e : EV} {w : WD} {xf : Int32 → List Int32} {c d : Int32} {rest : PL2} {f : Int32} {fl : List Int32} {ρ : List Int32} {g p q F n : Int32} {σ μ : mS} (Z : ZRok e) {M rk : Nat} (G : GK e M F n rk) (A : PT e w xf c d rest f fl ρ (-1) g p q F n σ μ) (z : eZ e rk g p q ρ (-1)) (ha : acm e q 8) {i j : Nat} (hi : i < ρ.length) (hj : j < ρ.length) (hv : sI (eμ e) 71 q = Int32.ofNat j) (hw : sI (eμ e) 73 q = Int32.ofNat i) (L : lo e rk g p (q + 1) ((ρ.set j (ρ.getD i 0)).set i (-1)) (-1)) : Good e (M + 3000) σ μ := by
  have A1 := ST_m A
  have e3 : mff (actP μ (n - 1) q) (n - 1) 3 = mff μ (n - 1) 3 := mf_I actP_fr rfl
  have hm := act_f A ha
  have k73 := (aP_70 A1 q).2
  have iq := (act_k A ha).1
  rw [← e3, hv] at hm
  rw [hw] at k73
  generalize actP μ (n - 1) q = τ at A1 hm k73
  obtain ⟨h1, h2, h3, h4, h5⟩ := PT_at A1 (Z _ _ _ _ _ _ z).1
  have bi := h5 i (by omega) 0 (by omega)
  have bj := h5 j (by omega) 0 (by omega)
  have A2 := set_m1 A1 h3 (h1 i hi) hj
  obtain ⟨g1, g2⟩ := gone_m1 (N := eN e) (j := i) A2 (by rw [List.length_set]; exact h3) (by simpa using hi)
  refine Good_m A ?_ (GK_lo G g2 L)
  rw [hm, af_8, iq, gd_tt, k73, gd_in (by decide) bi.1.1 bi.1.2, gd_in (by decide) bj.1.1 bj.1.2]
  have nb : vp_nar .byte (τ.2.2.1 141 (mff τ (n - 1) 3 + Int32.ofNat i).toNatClampNeg) = sI τ 141 (mff τ (n - 1) 3 + Int32.ofNat i) := RV_b (h1 i hi)
  rw [nb, lt, gd_tt, show (md_ai τ 141 (mff τ (n - 1) 3 + Int32.ofNat j).toNatClampNeg (sI τ 141 (mff τ (n - 1) 3 + Int32.ofNat i))).2.2.1 73 q.toNatClampNeg = Int32.ofNat i from k73, gd_in (by decide) bi.1.1 bi.1.2, gd_in (by decide) bj.1.1 bj.1.2, lt, gd_tt]
  rw [show (md_al (md_ai τ 141 (mff τ (n - 1) 3 + Int32.ofNat j).toNatClampNeg (sI τ 141 (mff τ (n - 1) 3 + Int32.ofNat i))) 142 (mff τ (n - 1) 3 + Int32.ofNat j).toNatClampNeg ((md_ai τ 141 (mff τ (n - 1) 3 + Int32.ofNat j).toNatClampNeg (sI τ 141 (mff τ (n - 1) 3 + Int32.ofNat i))).2.2.2 142 (mff τ (n - 1) 3 + Int32.ofNat i).toNatClampNeg)) = mW τ (mff τ (n - 1) 3 + Int32.ofNat j) (sI τ 141 (mff τ (n - 1) 3 + Int32.ofNat i)) (sJ τ 142 (mff τ (n - 1) 3 + Int32.ofNat i)) from rfl, show (mW τ (mff τ (n - 1) 3 + Int32.ofNat j) (sI τ 141 (mff τ (n - 1) 3 + Int32.ofNat i)) (sJ τ 142 (mff τ (n - 1) 3 + Int32.ofNat i))).2.2.1 73 q.toNatClampNeg = Int32.ofNat i from k73]
  exact (bd_me (fun z => rfl)).trans g1
/-- SWAP -/
theorem r_swap {e : EV} {w : WD} {xf : Int32 → List Int32} {c d : Int32} {rest : PL2} {f : Int32} {fl : List Int32} {ρ : List Int32} {g p q F n : Int32} {σ μ : mS} (Z : ZRok e) {M rk : Nat} (G : GK e M F n rk) {ρ0 : List Int32} {x x' : Int32} (A : PT e w xf c d rest f fl (ρ0 ++ [x] ++ [x']) (-1) g p q F n σ μ) (z : eZ e rk g p q (ρ0 ++ [x] ++ [x']) (-1)) (ha : acm e q 44) (L : lo e rk g p (q + 1) (((ρ0 ++ [x] ++ [x']).set (ρ0.length + 1) x).set ρ0.length x') (-1)) : Good e (M + 3000) σ μ := by
  have A1 := ST_m A
  have hm := act_f A ha
  rw [af_44, act_g A ha, mf_44] at hm
  generalize actP μ (n - 1) q = τ at A1 hm
  obtain ⟨h1, h2, h3, h4, h5⟩ := PT_at A1 (Z _ _ _ _ _ _ z).1
  have ln : (ρ0 ++ [x] ++ [x']).length = ρ0.length + 2 := by simp
  rw [ln] at h1 h2 h3
  have a0 := h1 ρ0.length (by omega)
  have a1 := h1 (ρ0.length + 1) (by omega)
  have x0 : (ρ0 ++ [x] ++ [x']).getD ρ0.length 0 = x := by simp [List.getD_eq_getElem?_getD]
  have x1 : (ρ0 ++ [x] ++ [x']).getD (ρ0.length + 1) 0 = x' := by simp [List.getD_eq_getElem?_getD]
  rw [x0] at a0
  rw [x1] at a1
  have b0 := h5 ρ0.length (by omega) (ρ0.length + 1) (by omega)
  have b1 := h5 (ρ0.length + 1) (by omega) 0 (by omega)
  have s1 : τ.1 143 - 1 = mff τ (n - 1) 3 + Int32.ofNat (ρ0.length + 1) := by rw [show τ.1 143 = sF τ 143 from rfl, h2]; exact b1.2.2.2
  have s2 : τ.1 143 - 2 = mff τ (n - 1) 3 + Int32.ofNat ρ0.length := by rw [show τ.1 143 - 2 = τ.1 143 - 1 - 1 from by lia, s1]; exact b0.2.2.2
  have A2 := set_m1 (j := ρ0.length + 1) A1 (by rw [ln]; omega) a0 (by rw [ln]; omega)
  have A3 := set_m1 (j := ρ0.length) A2 (by rw [List.length_set, ln]; omega) a1 (by rw [List.length_set, ln]; omega)
  refine Good_m A ?_ (GK_lo G A3 L)
  rw [hm, s1, s2, gd_in (by decide) b1.1.1 b1.1.2, lt, gd_in (by decide) b1.1.1 b1.1.2, lt, gd_in (by decide) b0.1.1 b0.1.2, gd_in (by decide) b1.1.1 b1.1.2]
  have nb0 : vp_nar .byte (τ.2.2.1 141 (mff τ (n - 1) 3 + Int32.ofNat ρ0.length).toNatClampNeg) = sI τ 141 (mff τ (n - 1) 3 + Int32.ofNat ρ0.length) := RV_b a0
  have nb1 : vp_nar .byte (τ.2.2.1 141 (mff τ (n - 1) 3 + Int32.ofNat (ρ0.length + 1)).toNatClampNeg) = sI τ 141 (mff τ (n - 1) 3 + Int32.ofNat (ρ0.length + 1)) := RV_b a1
  rw [nb0, lt, show (md_ai τ 141 (mff τ (n - 1) 3 + Int32.ofNat (ρ0.length + 1)).toNatClampNeg (sI τ 141 (mff τ (n - 1) 3 + Int32.ofNat ρ0.length))).1 143 = τ.1 143 from rfl, s1, s2, gd_in (by decide) b0.1.1 b0.1.2, gd_in (by decide) b1.1.1 b1.1.2, lt]
  rw [show ∀ v, (md_al (md_ai τ 141 (mff τ (n - 1) 3 + Int32.ofNat (ρ0.length + 1)).toNatClampNeg (sI τ 141 (mff τ (n - 1) 3 + Int32.ofNat ρ0.length))) 142 (mff τ (n - 1) 3 + Int32.ofNat (ρ0.length + 1)).toNatClampNeg v).1 143 = τ.1 143 from fun _ => rfl, s2, gd_in (by decide) b0.1.1 b0.1.2, nb1, lt]
  rw [show ∀ v t, (md_ai (md_al (md_ai τ 141 (mff τ (n - 1) 3 + Int32.ofNat (ρ0.length + 1)).toNatClampNeg (sI τ 141 (mff τ (n - 1) 3 + Int32.ofNat ρ0.length))) 142 (mff τ (n - 1) 3 + Int32.ofNat (ρ0.length + 1)).toNatClampNeg v) 141 (mff τ (n - 1) 3 + Int32.ofNat ρ0.length).toNatClampNeg t).1 143 = τ.1 143 from fun _ _ => rfl, s2, gd_in (by decide) b0.1.1 b0.1.2, lt]
  rfl
