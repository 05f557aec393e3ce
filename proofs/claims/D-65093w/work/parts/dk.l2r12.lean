/-! LAYER 2: step rules: INDEX, GLOBAL, SELF -/
/-- registers below a number are all held -/
def lvS (e : EV) (g : Int32) (ρ : List Int32) (live : Int32) : Prop := (∀ x, x ∈ ρ → dc x < live) ∧ live ≤ sI (eσ e) 261 g ∧ ∀ r, 0 ≤ r → r < live → r ∈ ρ.map dc
theorem LV_S {e : EV} {w : WD} {xf : Int32 → List Int32} {c d : Int32} {rest : PL2} {f : Int32} {fl : List Int32} {ρ : List Int32} {m : Int32} {g p q F n : Int32} {σ μ : mS} (S : ST e w xf c d rest f fl ρ m g p q F n σ μ) {ρ' : List Int32} {live : Int32} (V : lvS e g ρ' live) : LVd σ f ρ' live := by
  have b := MR0_f S.1.1.1
  rw [PT_R S.1] at b
  exact ⟨V.1, Int32.le_trans V.2.1 b.2.1.2.2, fun r r0 r1 => .inl (V.2.2 r r0 r1)⟩
theorem lo_S {e : EV} {rk : Nat} (hk : rk ≤ 2000000) {g p q : Int32} {ρ : List Int32} {m : Int32} (L : lo e rk g p q ρ m) : eS e g p q ρ m := by
  obtain ⟨r, hr, z⟩ := L
  exact ⟨r, by omega, z⟩
/-- the pile above the values changes -/
theorem ST_up {e : EV} {w : WD} {xf : Int32 → List Int32} {c d : Int32} {rest : PL2} {f : Int32} {fl : List Int32} {ρ : List Int32} {g p q F n : Int32} {σ μ : mS} {P q' : Int32} {μ2 : mS} (S : ST e w xf c d rest f fl ρ (-1) g p q F n σ μ) (h3 : ρ.length ≤ 2000) (hP : sF μ 143 = P) (y : mtc (n - 1) P μ μ2) (hq : mff μ2 (n - 1) 2 = q') : ST e w xf c d rest f fl ρ (-1) g p q' F n σ (md_pi μ2 143 P) := by
  obtain ⟨h1, h2, _, h4, h5⟩ := PT_at S.1 h3
  have N := PT_N S.1
  have e3 : mff μ (n - 1) 3 ≤ P := by rw [← hP, h2]; exact (pl_1 (j := ρ.length) (k := 0) N.2.2.1.1 N.2.2.1.2 (by omega) (by omega)).2.2.1
  refine ⟨PT_pile S.1 (mtc_tr (mtc_mono y e3) m143_tc) hq (by simp only [sF_pi, sF_pl, sF_ai, sF_al, sG_pi, sG_pl, sG_ai, sG_al, sI_pi, sI_pl, sI_al, sI_ai1, sI_ai2, sJ_pi, sJ_pl, sJ_ai, sJ_al1, sJ_al2, Nat.reduceEqDiff, if_true, if_false, ne_eq, not_false_eq_true, ite_true, ite_false]; rw [← hP, h2]) (fun j hj => ?_), S.2⟩
  have b := h5 j (by omega) ρ.length (by omega)
  have lt' : mff μ (n - 1) 3 + Int32.ofNat j < P := by
    rw [← hP, h2]
    have h0 := oN_bd (n := ρ.length) (by omega)
    have h1 := oN_lt2 hj (by omega)
    have n1 := N.2.2.1.1
    have n2 := N.2.2.1.2
    clear y hq hP h4
    lia
  have := y.2.2 _ b.1.1 lt'
  rw [show sI (md_pi μ2 143 P) 141 (mff μ (n - 1) 3 + Int32.ofNat j) = sI μ2 141 (mff μ (n - 1) 3 + Int32.ofNat j) from rfl, show sJ (md_pi μ2 143 P) 142 (mff μ (n - 1) 3 + Int32.ofNat j) = sJ μ2 142 (mff μ (n - 1) 3 + Int32.ofNat j) from rfl, this.1, this.2]
  exact h1 j hj
theorem good_G {e : EV} {w : WD} {xf : Int32 → List Int32} {c d : Int32} {rest : PL2} {f : Int32} {fl : List Int32} {ρ : List Int32} {m : Int32} {g p q F n : Int32} {σ μ : mS} {M : Nat} (A : PT e w xf c d rest f fl ρ m g p q F n σ μ) {ox : Option (Except (Nat × mS) mS)} {om : Option mS} (hx : xx6_step (eN e) σ = ox) (hm : mm_act (eN e) μ = om) (G : G2 e 1000 (M + 1) ox om) : Good e (M + 3000) σ μ := Good_mono (good_b (PT_0 A).1 (PT_0 A).2 hx hm G) (by omega)
/-- INDEX -/
theorem r_index {e : EV} {w : WD} {xf : Int32 → List Int32} {c d : Int32} {rest : PL2} {f : Int32} {fl : List Int32} {g p q F n : Int32} {σ μ : mS} {M rk : Nat} {ρ0 : List Int32} {x y r live : Int32} (C : CXT e M F n rk) (hk : rk ≤ 2000000) (A : PT e w xf c d rest f fl (ρ0 ++ [x] ++ [y]) (-1) g p q F n σ μ) (z : eZ e rk g p q (ρ0 ++ [x] ++ [y]) (-1)) (ho : opx e p 13) (ha : acm e q 15) (ln : lin e p q) (h1 : nx e (p + 1) = r) (h2 : nx e (p + 2) = x) (h3 : nx e (p + 3) = y) (h4 : nx e (p + 4) = live) (x0 : 0 ≤ x) (y0 : 0 ≤ y) (ok : okr ρ0 r 1 (sI (eσ e) 261 g)) (V : lvS e g ρ0 live) (L : lo e rk g (p + 5) (q + 1) (ρ0 ++ [r]) (-1)) : Good e (M + 3000) σ μ := by
  obtain ⟨E, hM, Z, _, _, G, _, _⟩ := id C
  have hx := PT_x A ho (fun s => rfl)
  have S := PT_s A 5
  have LL := PT_LE (k := 0) A ho ln 5
  have o := ops_1 ho.1.1 ho.1.2
  have hm := act_f A ha
  rw [af_15, act_b] at hm
  have h256 := fun i => xP_256 S.1 i
  generalize xP σ f p 5 = τ at hx S h256 LL
  generalize actP μ (n - 1) q = τm at hm S LL
  have zk0 := zk_of Z z
  have zk1 : zk e g ρ0 := zk_l (zk_l zk0)
  obtain ⟨B, ⟨t0, t1, t2⟩, ⟨B0, B1, B2⟩, e0, e1, v0', v1'⟩ := top_2 S.1 zk0.1
  have bb := bnd3 B0 B2
  have A2 := PT_take S.1 (j := ρ0.length) (by rw [List.append_assoc, List.length_append]; omega) e0
  rw [List.append_assoc, List.take_left' rfl] at A2
  have S2 : ST e w xf c d rest f fl ρ0 (-1) g (p + 5) (q + 1) F n τ (md_pi τm 143 B) := ⟨A2, S.2⟩
  have vx := RV_V v0' x0
  have vy := RV_V v1' y0
  have xR := zk_reg zk0 (x := x) (by simp) x0
  have yR := zk_reg zk0 (x := y) (by simp) y0
  rw [sf_13, gd_in (by decide) o.2.1.1 o.2.1.2, h256, h2, (rd_r S x0 xR).1, bd_so, gd_in (by decide) o.2.1.1 o.2.1.2, h256, h2, (rd_r S x0 xR).2, bd_so, gd_in (by decide) o.2.2.1.1 o.2.2.1.2, h256, h3, (rd_r S y0 yR).1, bd_so, gd_in (by decide) o.2.2.1.1 o.2.2.1.2, h256, h3, (rd_r S y0 yR).2, bd_so, gd_in (by decide) o.1.1 o.1.2, gd_in (by decide) o.2.2.2.1 o.2.2.2.2, rare_s, h256, h256, h1, h4, xx6_index] at hx
  rw [show τm.1 143 = sF τm 143 from rfl, t2, mm_index, gd_in (by decide) bb.1.1 bb.1.2, lt, gd_in (by decide) bb.1.1 bb.1.2, lt, gd_in (by decide) bb.2.1.1 bb.2.1.2, lt, gd_in (by decide) bb.2.1.1 bb.2.1.2, lt] at hm
  have ct : ctS (eS e) (sI (eσ e) 261 g) g (p + 5) (q + 1) ρ0 1 r 1 1 0 := .inr (.inr (.inl ⟨rfl, rfl, rfl, ok, lo_S hk L⟩))
  rcases index_2 (μ := μ) C zk1 vy ok ct (LV_S S2 V) B0 B2 (eN e) 0 (by decide) (by decide) (by have := C.1.1; rw [show (0 : Int32).toInt = 0 from rfl]; omega) _ _ _ _ τm vx S2 LL with ⟨tx, v1, tm, v2, μ', v, i1, i2, S3⟩ | G2
  · obtain ⟨p1, p2, p3⟩ := push_1 (N := eN e) (N' := eN e) S3 zk1 ok v
    exact Good_2 A (hx.trans i1) (hm.trans i2) (GK_lo G p3.1 L)
  · exact good_G A hx hm G2
/-- GLOBAL -/
theorem r_global {e : EV} {w : WD} {xf : Int32 → List Int32} {c d : Int32} {rest : PL2} {f : Int32} {fl : List Int32} {ρ : List Int32} {g p q F n : Int32} {σ μ : mS} {M rk : Nat} {r live : Int32} (C : CXT e M F n rk) (hk : rk ≤ 2000000) (A : PT e w xf c d rest f fl ρ (-1) g p q F n σ μ) (z : eZ e rk g p q ρ (-1)) (ho : opx e p 11) (ha : acm e q 12) (ln : lin e p q) (h1 : nx e (p + 1) = r) (h2 : (nx e (p + 2), sI (eμ e) 71 q) ∈ eX' e) (h4 : nx e (p + 3) = live) (ok : okr ρ r 1 (sI (eσ e) 261 g)) (V : lvS e g ρ live) (L : lo e rk g (p + 4) (q + 1) (ρ ++ [r]) (-1)) : Good e (M + 3000) σ μ := by
  obtain ⟨E, hM, Z, _, _, G, _, _⟩ := id C
  have hx := PT_x A ho (fun s => rfl)
  have S := PT_s A 4
  have LL := PT_LE (k := 0) A ho ln 4
  have o := ops_1 ho.1.1 ho.1.2
  have hm := act_f A ha
  rw [af_12] at hm
  have h256 := fun i => xP_256 S.1 i
  rw [sf_11, gd_in (by decide) o.2.1.1 o.2.1.2, gd_in (by decide) o.1.1 o.1.2, gd_in (by decide) o.2.2.1.1 o.2.2.1.2, rare_s, h256, h256, h256, h1, h4, xx6_index] at hx
  generalize xP σ f p 4 = τ at hx S h256 LL
  generalize actP μ (n - 1) q = τm at hm S LL
  have zk0 := zk_of Z z
  obtain ⟨g1, g2, _, g4, g5⟩ := PT_at S.1 zk0.1
  have N := (PT_N S.1).2.2.1
  have tp := tp_1 (n := ρ.length) zk0.1 N.1 N.2
  have B0 : 0 ≤ sF τm 143 := by rw [g2]; exact tp.1
  have B2 : sF τm 143 ≤ 480000 := by
    rw [g2]
    have h0 := oN_bd (n := ρ.length) (by have := zk0.1; omega)
    have n1 := N.1
    have n2 := N.2
    clear g1 g5 hx hm h256 LL
    lia
  generalize eB : sF τm 143 = B at B0 B2
  have bb := bnd3 B0 B2
  have H0 := S.1.1.1
  have ho395 := H0.1.2.2.1.2.2.2.2.2.2.1
  have vs : VV w 4 (Int32.toInt64 (nx e (p + 2))) 3 (Int32.toInt64 (sI (eμ e) 71 q)) := .inr (.inr (.inr (.inr (.inl ⟨rfl, rfl, _, _, rfl, rfl, .inr (H0.2.1.2.2.1 _ h2)⟩))))
  have vt : VV w 5 (Int32.toInt64 (sF τ 395)) 4 (Int32.toInt64 (sF τm 191)) := VV_tn ho395
  have m1 := push_mP (N := eN e) (μ := τm) (t := 4) (v := Int32.toInt64 (sF τm 191)) eB bb.1.1 bb.1.2 (by decide) (by decide)
  have eB1 : sF (mPu τm 4 (Int32.toInt64 (sF τm 191))) 143 = B + 1 := by rw [mPu_143, eB]
  have m2 := push_mP (N := eN e) (μ := mPu τm 4 (Int32.toInt64 (sF τm 191))) (t := 3) (v := Int32.toInt64 (sI (eμ e) 71 q)) eB1 bb.2.1.1 bb.2.1.2 (by decide) (by decide)
  have eB2 : sF (mPu (mPu τm 4 (Int32.toInt64 (sF τm 191))) 3 (Int32.toInt64 (sI (eμ e) 71 q))) 143 = B + 2 := by rw [mPu_143, eB1]; lia
  have q0 : 0 ≤ sF τm 143 := by rw [eB]; exact bb.1.1
  have q1 : 0 ≤ sF (mPu τm 4 (Int32.toInt64 (sF τm 191))) 143 := by rw [eB1]; exact bb.2.1.1
  have n1 : ¬ B = B + 1 := by lia
  have y : mtc (n - 1) B τm (mPu (mPu τm 4 (Int32.toInt64 (sF τm 191))) 3 (Int32.toInt64 (sI (eμ e) 71 q))) := mtc_tr (mPu_y q0 (by rw [eB]; exact Int32.le_refl _)) (mPu_y q1 (by rw [eB1]; lia))
  have r1 : sI (mPu (mPu τm 4 (Int32.toInt64 (sF τm 191))) 3 (Int32.toInt64 (sI (eμ e) 71 q))) 141 B = 4 ∧ sJ (mPu (mPu τm 4 (Int32.toInt64 (sF τm 191))) 3 (Int32.toInt64 (sI (eμ e) 71 q))) 142 B = Int32.toInt64 (sF τm 191) := by
    rw [mPu_I q1 bb.1.1, mPu_J q1 bb.1.1, eB1, if_neg n1, if_neg n1, mPu_I q0 bb.1.1, mPu_J q0 bb.1.1, eB, if_pos rfl, if_pos rfl]
    exact ⟨rfl, rfl⟩
  have r2 : sI (mPu (mPu τm 4 (Int32.toInt64 (sF τm 191))) 3 (Int32.toInt64 (sI (eμ e) 71 q))) 141 (B + 1) = 3 ∧ sJ (mPu (mPu τm 4 (Int32.toInt64 (sF τm 191))) 3 (Int32.toInt64 (sI (eμ e) 71 q))) 142 (B + 1) = Int32.toInt64 (sI (eμ e) 71 q) := by
    rw [mPu_I q1 bb.2.1.1, mPu_J q1 bb.2.1.1, eB1, if_pos rfl, if_pos rfl]
    exact ⟨rfl, rfl⟩
  rw [show (Int32.toInt64 (τm.1 191)) = Int32.toInt64 (sF τm 191) from rfl, m1, bd_so, m2, bd_so] at hm
  have hqq : mff (mPu (mPu τm 4 (Int32.toInt64 (sF τm 191))) 3 (Int32.toInt64 (sI (eμ e) 71 q))) (n - 1) 2 = q + 1 := by
    have := S.1.2.2.2.1
    rw [S.1.2.2.2.2.2] at this
    exact this
  have e8 : mff (mPu (mPu τm 4 (Int32.toInt64 (sF τm 191))) 3 (Int32.toInt64 (sI (eμ e) 71 q))) (n - 1) 8 = mff τm (n - 1) 8 := rfl
  generalize mPu (mPu τm 4 (Int32.toInt64 (sF τm 191))) 3 (Int32.toInt64 (sI (eμ e) 71 q)) = μ2 at hm y r1 r2 eB2 hqq e8
  have S2 := ST_up S zk0.1 eB y hqq
  have L2 : LE τ (mff μ2) f (n - 1) := by
    simp only [LE] at LL ⊢
    rw [e8]; exact LL
  have e141 : ∀ i : Int32, μ2.2.2.1 141 i.toNatClampNeg = sI μ2 141 i := fun i => rfl
  have e142 : ∀ i : Int32, μ2.2.2.2 142 i.toNatClampNeg = sJ μ2 142 i := fun i => rfl
  rw [act_b, show μ2.1 143 = sF μ2 143 from rfl, eB2, show B + 2 - 2 = B from by lia, mm_index, gd_in (by decide) bb.1.1 bb.1.2, lt, gd_in (by decide) bb.1.1 bb.1.2, lt, gd_in (by decide) bb.2.1.1 bb.2.1.2, lt, gd_in (by decide) bb.2.1.1 bb.2.1.2, lt, e141, e141, e142, e142, r1.1, r1.2, r2.1, r2.2] at hm
  have ct : ctS (eS e) (sI (eσ e) 261 g) g (p + 4) (q + 1) ρ 1 r 1 1 0 := .inr (.inr (.inl ⟨rfl, rfl, rfl, ok, lo_S hk L⟩))
  rcases index_2 (μ := μ) C zk0 vs ok ct (LV_S S2 V) B0 B2 (eN e) 0 (by decide) (by decide) (by have := C.1.1; rw [show (0 : Int32).toInt = 0 from rfl]; omega) _ _ _ _ μ2 vt S2 L2 with ⟨tx, v1, tm, v2, μ', v, i1, i2, S3⟩ | G2
  · obtain ⟨p1, p2, p3⟩ := push_1 (N := eN e) (N' := eN e) S3 zk0 ok v
    exact Good_2 A (hx.trans i1) (hm.trans i2) (GK_lo G p3.1 L)
  · exact good_G A hx hm G2
