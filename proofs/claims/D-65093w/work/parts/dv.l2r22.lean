/-! LAYER 2: step rules: < > <= >= -/
theorem swap_m {N : Nat} {μ : mS} {s B t1 t2 : Int32} {v1 v2 : Int64} (hs : s = 162 ∨ s = 306) (B0 : 0 ≤ B) (B2 : B ≤ 480000) (a1 : sI μ 141 B = t1) (a2 : sJ μ 142 B = v1) (a3 : sI μ 141 (B + 1) = t2) (a4 : sJ μ 142 (B + 1) = v2) (b1 : 0 ≤ t1 ∧ t1 ≤ 8) (b2 : 0 ≤ t2 ∧ t2 ≤ 8) : mm_compare N μ s B (B + 1) = mm_compare_70 N s B (B + 1) (mW (mW μ B t2 v2) (B + 1) t1 v1) := by
  have bb := bnd3 B0 B2
  have e : mm_compare N μ s B (B + 1) = mm_compare_14 N s B (B + 1) μ := by
    rcases hs with rfl | rfl <;> rfl
  have e1 : μ.2.2.1 141 B.toNatClampNeg = t1 := a1
  have e2 : μ.2.2.2 142 B.toNatClampNeg = v1 := a2
  have e3 : μ.2.2.1 141 (B + 1).toNatClampNeg = t2 := a3
  have e4 : (md_ai μ 141 B.toNatClampNeg t2).2.2.2 142 (B + 1).toNatClampNeg = v2 := a4
  have n1 : vp_nar .byte t1 = t1 := tag_b b1.1 b1.2
  have n2 : vp_nar .byte t2 = t2 := tag_b b2.1 b2.2
  rw [e, mm_compare_14, gd_in (by decide) bb.1.1 bb.1.2, e1, lt, gd_in (by decide) bb.1.1 bb.1.2, e2, lt, gd_in (by decide) bb.2.1.1 bb.2.1.2, gd_in (by decide) bb.1.1 bb.1.2, e3, n2, lt, gd_in (by decide) bb.2.1.1 bb.2.1.2, gd_in (by decide) bb.1.1 bb.1.2, e4, lt, gd_in (by decide) bb.2.1.1 bb.2.1.2, n1, lt, gd_in (by decide) bb.2.1.1 bb.2.1.2, lt]
  rfl
theorem r_cmp {e : EV} {w : WD} {xf : Int32 → List Int32} {c d : Int32} {rest : PL2} {f : Int32} {fl : List Int32} {g p q F n : Int32} {σ μ : mS} {M rk : Nat} {ρ0 : List Int32} {x y r live op s : Int32} (hos : (op = 52 ∧ (s = 160 ∨ s = 162)) ∨ (op = 53 ∧ (s = 305 ∨ s = 306))) (C : CXT e M F n rk) (hk : rk ≤ 2000000) (A : PT e w xf c d rest f fl (ρ0 ++ [x] ++ [y]) (-1) g p q F n σ μ) (z : eZ e rk g p q (ρ0 ++ [x] ++ [y]) (-1)) (ho : opx e p op) (ha : acm e q 23) (hs : sI (eμ e) 71 q = s) (ln : lin e p q) (h1 : nx e (p + 1) = r) (h2 : if s = 160 ∨ s = 305 then nx e (p + 2) = x ∧ nx e (p + 3) = y else nx e (p + 2) = y ∧ nx e (p + 3) = x) (h4 : nx e (p + 4) = live) (x0 : 0 ≤ x) (y0 : 0 ≤ y) (ok : okr ρ0 r 1 (sI (eσ e) 261 g)) (V : lvS e g ρ0 live) (L : lo e rk g (p + 5) (q + 1) (ρ0 ++ [r]) (-1)) : Good e (M + 3000) σ μ := by
  obtain ⟨E, hM, Z, _, _, G, _, _⟩ := id C
  have opd : 40 ≤ op ∧ op < 54 ∧ op ≠ 51 ∧ op ≠ 50 ∧ ¬ op < 52 ∧ ∀ s', xx0_width (eN e) s' op = some (5, s') := by
    rcases hos with ⟨rfl, _⟩ | ⟨rfl, _⟩
    · exact ⟨by decide, by decide, by decide, by decide, by decide, fun _ => rfl⟩
    · exact ⟨by decide, by decide, by decide, by decide, by decide, fun _ => rfl⟩
  have hx := PT_x A ho opd.2.2.2.2.2
  have S := PT_s A 5
  have LL := PT_LE (k := 0) A ho ln 5
  have hm := act_f A ha
  have two : ∀ μ : mS, mm_two (eN e) μ s = mm_compare (eN e) μ s (μ.1 143 - 2) (μ.1 143 - 1) := fun μ => by
    have e0 : mm_two (eN e) μ s = mm_two_171 (eN e) s (μ.1 143 - 2) (μ.1 143 - 1) μ := by
      rcases hos with ⟨_, rfl | rfl⟩ | ⟨_, rfl | rfl⟩ <;> rfl
    rw [e0, mm_two_171]; exact bd_me (fun z => rfl)
  rw [af_23, act_g A ha, mf_23, act_b, more_b, hs, two] at hm
  have h256 := fun i => xP_256 S.1 i
  rw [sf_sg opd.1, sgn_x opd.2.1 ho.1 h256, h1, h4, sgF, if_neg opd.2.2.1, if_neg opd.2.2.2.1, if_neg opd.2.2.2.2.1, sg269, bx_me (fun z => rfl)] at hx
  generalize xP σ f p 5 = τ at hx S h256 LL
  generalize actP μ (n - 1) q = τm at hm S LL
  have zk0 := zk_of Z z
  have zk1 : zk e g ρ0 := zk_l (zk_l zk0)
  obtain ⟨B, ⟨t0, t1, t2⟩, ⟨B0, B1, B2⟩, e0, e1, v0', v1'⟩ := top_2 S.1 zk0.1
  have bb := bnd3 B0 B2
  have A2 := PT_take S.1 (j := ρ0.length) (by rw [List.append_assoc, List.length_append]; omega) e0
  rw [List.append_assoc, List.take_left' rfl] at A2
  have S2 : ST e w xf c d rest f fl ρ0 (-1) g (p + 5) (q + 1) F n τ (md_pi τm 143 B) := ⟨A2, S.2⟩
  have vx := RV_V v0' x0
  have vy := RV_V v1' y0
  have xR := zk_reg zk0 (x := x) (by simp) x0
  have yR := zk_reg zk0 (x := y) (by simp) y0
  rw [show τm.1 143 = sF τm 143 from rfl, t2, t1] at hm
  have bx := (VV_t8 vx).2
  have by' := (VV_t8 vy).2
  by_cases sw : s = 160 ∨ s = 305
  · rw [if_pos sw] at h2
    rw [h2.1, h2.2] at hx
    rcases hos with ⟨rfl, hs'⟩ | ⟨rfl, hs'⟩
    · have s1 : s = 160 := hs'.resolve_right (fun q => by subst q; exact absurd sw (by decide))
      subst s1
      exact cmp_less C hk zk1 S2 LL (LV_S S2 V) B0 B2 x0 xR y0 yR vx vy t0 ok L A hx hm
    · have s1 : s = 305 := hs'.resolve_right (fun q => by subst q; exact absurd sw (by decide))
      subst s1
      exact cmp_least C hk zk1 S2 LL (LV_S S2 V) B0 B2 x0 xR y0 yR vx vy t0 ok L A hx hm
  · rw [if_neg sw] at h2
    rw [h2.1, h2.2] at hx
    have hsw : s = 162 ∨ s = 306 := by
      rcases hos with ⟨_, h | h⟩ | ⟨_, h | h⟩
      · exact absurd (.inl h) sw
      · exact .inl h
      · exact absurd (.inr h) sw
      · exact .inr h
    rw [swap_m hsw B0 B2 rfl rfl rfl rfl bx by'] at hm
    have y2 : mtc (n - 1) B (md_pi τm 143 B) (mW (mW τm B (sI τm 141 (B + 1)) (sJ τm 142 (B + 1))) (B + 1) (sI τm 141 B) (sJ τm 142 B)) := mtc_tr m143_bk (mtc_tr (mW_tc B0 (Int32.le_refl _)) (mW_tc bb.2.1.1 (by lia)))
    have hq2 : mff (mW (mW τm B (sI τm 141 (B + 1)) (sJ τm 142 (B + 1))) (B + 1) (sI τm 141 B) (sJ τm 142 B)) (n - 1) 2 = q + 1 := by
      have := S2.1.2.2.2.1
      rw [S2.1.2.2.2.2.2] at this
      exact this
    have top2 : sF (mW (mW τm B (sI τm 141 (B + 1)) (sJ τm 142 (B + 1))) (B + 1) (sI τm 141 B) (sJ τm 142 B)) 143 = B + 2 := t0
    have r1 : sI (mW (mW τm B (sI τm 141 (B + 1)) (sJ τm 142 (B + 1))) (B + 1) (sI τm 141 B) (sJ τm 142 B)) 141 B = sI τm 141 (B + 1) ∧ sJ (mW (mW τm B (sI τm 141 (B + 1)) (sJ τm 142 (B + 1))) (B + 1) (sI τm 141 B) (sJ τm 142 B)) 142 B = sJ τm 142 (B + 1) := by
      have nn := ch_1 B0 B2
      rw [mW_I bb.2.1.1 B0, mW_J bb.2.1.1 B0, if_neg nn.1, if_neg nn.1, mW_I B0 B0, mW_J B0 B0, if_pos rfl, if_pos rfl]
      exact ⟨rfl, rfl⟩
    have r2 : sI (mW (mW τm B (sI τm 141 (B + 1)) (sJ τm 142 (B + 1))) (B + 1) (sI τm 141 B) (sJ τm 142 B)) 141 (B + 1) = sI τm 141 B ∧ sJ (mW (mW τm B (sI τm 141 (B + 1)) (sJ τm 142 (B + 1))) (B + 1) (sI τm 141 B) (sJ τm 142 B)) 142 (B + 1) = sJ τm 142 B := by
      rw [mW_I bb.2.1.1 bb.2.1.1, mW_J bb.2.1.1 bb.2.1.1, if_pos rfl, if_pos rfl]
      exact ⟨rfl, rfl⟩
    have L2 : LE τ (mff (mW (mW τm B (sI τm 141 (B + 1)) (sJ τm 142 (B + 1))) (B + 1) (sI τm 141 B) (sJ τm 142 B))) f (n - 1) := LE_fr (P := fun _ => false) LL mf_rfl (mf_tr mW_fr mW_fr) rfl rfl rfl
    generalize mW (mW τm B (sI τm 141 (B + 1)) (sJ τm 142 (B + 1))) (B + 1) (sI τm 141 B) (sJ τm 142 B) = μ3 at hm y2 hq2 top2 r1 r2 L2
    have S3 := ST_up (P := B) S2 zk1.1 (by simp only [sF_pi, sF_pl, sF_ai, sF_al, sG_pi, sG_pl, sG_ai, sG_al, sI_pi, sI_pl, sI_al, sI_ai1, sI_ai2, sJ_pi, sJ_pl, sJ_ai, sJ_al1, sJ_al2, Nat.reduceEqDiff, if_true, if_false, ne_eq, not_false_eq_true, ite_true, ite_false]) y2 hq2
    rw [← r1.1, ← r1.2] at vy
    rw [← r2.1, ← r2.2] at vx
    rcases hos with ⟨rfl, hs'⟩ | ⟨rfl, hs'⟩
    · have s1 : s = 162 := hs'.resolve_left (fun q => sw (.inl q))
      subst s1
      exact cmp_less C hk zk1 S3 L2 (LV_S S3 V) B0 B2 y0 yR x0 xR vy vx top2 ok L A hx hm
    · have s1 : s = 306 := hs'.resolve_left (fun q => by subst q; exact absurd sw (by decide))
      subst s1
      exact cmp_least C hk zk1 S3 L2 (LV_S S3 V) B0 B2 y0 yR x0 xR vy vx top2 ok L A hx hm
