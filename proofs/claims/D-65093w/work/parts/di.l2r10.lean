/-! LAYER 2: step rules: a call begins in the top call -/
theorem mtc_mono {k0 B B' : Int32} {μ τm : mS} (y : mtc k0 B' μ τm) (h : B ≤ B') : mtc k0 B μ τm := ⟨y.1, y.2.1, fun i i0 iB => y.2.2 i i0 (Int32.lt_of_lt_of_le iB h)⟩
theorem begin_S {e : EV} {w : WD} {xf : Int32 → List Int32} {c d : Int32} {rest : PL2} {f : Int32} {fl : List Int32} {ρ : List Int32} {g p q F n : Int32} {σ μ : mS} {σ0 μ0 : mS} {M rk : Nat} {P nn tx md rg wt wn th : Int32} {vx : Int64} (C : CXT e M F n rk) (A : PT e w xf c d rest f fl ρ (-1) g p q F n σ0 μ0) (zl : ρ.length ≤ 2000) (hP : P = mff μ0 (n - 1) 3 + Int32.ofNat ρ.length) (x : xtc f (sI (eσ e) 261 g) σ0 σ) (y : mtc (n - 1) P μ0 μ) (hp : sI σ 346 f = p) (hq : mff μ (n - 1) 2 = q) (hr : ∀ x, x ∈ ρ → 0 ≤ dc x → xt σ f (dc x) = xt σ0 f (dc x) ∧ xv σ f (dc x) = xv σ0 f (dc x)) (L : LE σ (mff μ) f (n - 1)) (V : LV σ f ρ) (R : AR w σ μ P nn) (v : VV w tx vx (sI μ 141 P) (sJ μ 142 P)) (ct : ctS (eS e) (sI (eσ e) 261 g) g p q ρ md rg wt wn th) : G2 e 1000 (M + 1) (xx6_begin (eN e) σ tx vx md rg wt) (mm_call (eN e) μ P nn wn th) := by
  obtain ⟨E, hM, Z, EK, LB, G, HGs, GR⟩ := C
  have A' := A
  have R261 := PT_R A
  have N := PT_N A
  obtain ⟨⟨H, T⟩, a1, a2, a3, a4, a5⟩ := A
  have B3 : mff μ0 (n - 1) 3 ≤ P := by rw [hP]; exact (pl_1 (j := ρ.length) (k := 0) N.2.2.1.1 N.2.2.1.2 (by omega) (by omega)).2.2.1
  have e154 : sF μ 154 = n := (mf_F y.1 (nT_f (by omega))).trans a5
  have e344 : sI σ 344 f = g := (mf_I x.1 (xT_f (by omega))).trans a1
  have e261 : sI σ 261 g = sI (eσ e) 261 g := by rw [← R261, a1]; exact mf_I x.1 (xT_f (by omega))
  have H' : MR0 e w xf c d rest f fl σ μ := MR0_tc H (by rw [R261]; exact x) (by rw [a5]; exact mtc_mono y B3)
  have eF : sF σ 396 = F := (mf_F x.1 (xT_f (by omega))).trans a4
  rw [a5] at T
  obtain ⟨T1, T2⟩ := TP_1 T
  have e3 : mff μ (n - 1) 3 = mff μ0 (n - 1) 3 := mf_I (k := 147) y.1 (nT_f (by omega))
  obtain ⟨H1, V1, hf, hk, hB, FCx, FLx⟩ := H'
  rw [e154] at hk hB FCx FLx
  have RGρ : RG w σ f (sI μ 141) (sJ μ 142) (mff μ (n - 1) 3) ρ := by
    rw [e3]
    refine RG_cg T1 wle_rfl hr (fun j hj => ?_)
    have b := pl_1 (j := j) (k := ρ.length) N.2.2.1.1 N.2.2.1.2 (by omega) (by omega)
    refine y.2.2 _ b.1.1 ?_
    rw [hP]
    have h0 := oN_bd (n := ρ.length) (by omega)
    have h1 := oN_lt2 hj (by omega)
    have n1 := N.2.2.1.1
    have n2 := N.2.2.1.2
    clear T1 T2 T FCx FLx V1 H1
    lia
  obtain ⟨c1, c2, c3, c4, c5, c6, c7, c8, c9, c10, c11, c12, c13⟩ := FCx
  have FCρ : FC w σ (mff μ) (sI μ 141) (sJ μ 142) f (n - 1) ρ := ⟨c1, c2, c3, c4, c5, c6, c7, c8, c9, RGρ, c11, c12, c13⟩
  have CLx : CL e w xf c d rest (md, rg, wt, P, wn, th) σ μ := by
    refine ⟨H1, V1, ?_⟩
    rw [hf, e154]
    refine ⟨hk, hB, .inr ⟨ρ, FCρ, by rw [e3]; exact hP, zl, L, ?_, V⟩, FLx⟩
    rw [e344, e261, hp, hq]
    exact ct
  have o358 := H1.2.2.2.2.2.2.2.2.1.2.1
  rw [tI_le] at o358
  exact BG_all E EK LB (by omega) 200 F (n - 1) HGs (GR 200).2 w xf c d rest (md, rg, wt, P, wn, th) σ μ P nn tx vx 1100 850 CLx R rfl v (VV_8 v) eF (by rw [e154]; exact Int32.le_refl _) (by have z0 : (0 : Int32).toInt = 0 := rfl; omega) (by omega) (by omega)
/-- arguments are laid -/
def aW (σ : mS) (k t : Int32) (v : Int64) : mS := md_pi (md_al (md_ai σ 397 k.toNatClampNeg t) 398 k.toNatClampNeg v) 399 (k + 1)
theorem aW_fr {σ : mS} {k t : Int32} {v : Int64} : m_fr (fun k => [397, 398, 399].contains k) σ (aW σ k t v) := mf_pi (mf_al (mf_ai mf_rfl rfl) rfl) rfl
theorem aW_399 {σ : mS} {k t : Int32} {v : Int64} : sF (aW σ k t v) 399 = k + 1 := by simp only [aW, sF_pi, sF_pl, sF_ai, sF_al, sG_pi, sG_pl, sG_ai, sG_al, sI_pi, sI_pl, sI_al, sI_ai1, sI_ai2, sJ_pi, sJ_pl, sJ_ai, sJ_al1, sJ_al2, Nat.reduceEqDiff, if_true, if_false, ne_eq, not_false_eq_true, ite_true, ite_false]
theorem aW_I {σ : mS} {k t i : Int32} {v : Int64} (k0 : 0 ≤ k) (i0 : 0 ≤ i) : sI (aW σ k t v) 397 i = if i = k then t else sI σ 397 i := by
  rw [show sI (aW σ k t v) 397 i = sI (md_ai σ 397 k.toNatClampNeg t) 397 i from rfl, sI_aj k0 i0]
theorem aW_J {σ : mS} {k t i : Int32} {v : Int64} (k0 : 0 ≤ k) (i0 : 0 ≤ i) : sJ (aW σ k t v) 398 i = if i = k then v else sJ σ 398 i := by
  rw [show sJ (aW σ k t v) 398 i = sJ (md_al (md_ai σ 397 k.toNatClampNeg t) 398 k.toNatClampNeg v) 398 i from rfl, sJ_lj k0 i0]
  rfl
theorem arg_x {N : Nat} {σ : mS} {k t : Int32} {v : Int64} (h : sF σ 399 = k) (k0 : 0 ≤ k) (k1 : k < 160) (t0 : 0 ≤ t) (t1 : t ≤ 8) : xx6_arg N σ t v = some (aW σ k t v) := by
  have e : σ.1 399 = k := h
  rw [xx6_arg, e, gd_in (by decide) k0 k1, nar_tag t0 t1, lt]
  rw [show (md_ai σ 397 k.toNatClampNeg t).1 399 = k from h, gd_in (by decide) k0 k1, lt]
  rw [show (md_al (md_ai σ 397 k.toNatClampNeg t) 398 k.toNatClampNeg v).1 399 = k from h, lt]
  rfl
/-- the calls of the coroutine that runs -/
theorem top_c {e : EV} {w : WD} {xf : Int32 → List Int32} {c d : Int32} {rest : PL2} {f : Int32} {fl : List Int32} {ρ : List Int32} {m : Int32} {g p q F n : Int32} {σ μ : mS} (A : PT e w xf c d rest f fl ρ m g p q F n σ μ) : sF σ 339 = c ∧ (0 ≤ c ∧ c < 121) ∧ sI σ 326 c = f := by
  obtain ⟨⟨H, T⟩, a1, a2, a3, a4, a5⟩ := A
  have hc := ME_c H.1
  have X := H.1.2.2.2.1
  obtain ⟨fc, bl, h1, h2, _⟩ := X
  have s := h2 c hc.1
  rw [H.2.2.1] at s
  exact ⟨H.1.2.2.2.2.2.2.1.1, ⟨hc.2.1, hc.2.2.1⟩, s.1⟩
/-- what is held is told; arguments, so far none -/
def lvW (σ : mS) (f live : Int32) : mS := md_pi (md_ai σ 353 f.toNatClampNeg live) 399 0
theorem lvW_fr {σ : mS} {f live : Int32} : m_fr (fun k => [353, 399].contains k) σ (lvW σ f live) := mf_pi (mf_ai mf_rfl rfl) rfl
theorem lvW_tc {σ τ : mS} {f live R : Int32} (f0 : 0 ≤ f) (fr : m_fr (fun k => [397, 398, 399].contains k) (lvW σ f live) τ) : xtc f R σ τ := by
  have fr2 : m_fr (fun k => [353, 397, 398, 399].contains k) σ τ := mf_tr (mf_mono lvW_fr (fun k hk => by
    simp only [List.contains_cons, List.contains_nil, Bool.or_eq_false_iff, beq_eq_false_iff_ne] at hk ⊢
    (repeat' (first | exact trivial | omega | apply And.intro)))) (mf_mono fr (fun k hk => by
    simp only [List.contains_cons, List.contains_nil, Bool.or_eq_false_iff, beq_eq_false_iff_ne] at hk ⊢
    (repeat' (first | exact trivial | omega | apply And.intro))))
  refine ⟨mf_mono fr2 (fun k hk => ?_), fun k hk g g0 gf => ?_, fun i _ _ => ⟨mf_I fr2 rfl, mf_J fr2 rfl⟩⟩
  · simp only [xT, inR, List.contains_cons, List.contains_nil, Bool.or_eq_false_iff, beq_eq_false_iff_ne, Bool.and_eq_false_iff, decide_eq_false_iff_not] at hk ⊢
    (repeat' (first | exact trivial | omega | apply And.intro))
  · rcases hk with rfl | rfl | rfl | rfl
    · exact mf_I fr2 rfl
    · exact mf_I fr2 rfl
    · rw [mf_I fr (k := 353) rfl, show sI (lvW σ f live) 353 g = sI (md_ai σ 353 f.toNatClampNeg live) 353 g from rfl, sI_aj f0 g0, if_neg gf]
    · exact mf_I fr2 rfl
/-- what is held -/
def LVd (σ : mS) (f : Int32) (ρ : List Int32) (live : Int32) : Prop := (∀ x, x ∈ ρ → dc x < live) ∧ live ≤ sI σ 349 f ∧ ∀ r, 0 ≤ r → r < live → r ∈ ρ.map dc ∨ xt σ f r = 0
theorem LVd_V {σ τ : mS} {f live : Int32} {ρ : List Int32} (f0 : 0 ≤ f) (H : LVd σ f ρ live) (fr : m_fr (fun k => [397, 398, 399].contains k) (lvW σ f live) τ) : LV τ f ρ := by
  have e353 : sI τ 353 f = live := by rw [mf_I fr (k := 353) rfl, show sI (lvW σ f live) 353 f = sI (md_ai σ 353 f.toNatClampNeg live) 353 f from rfl, sI_aj f0 f0, if_pos rfl]
  have e349 : sI τ 349 f = sI σ 349 f := (mf_I fr rfl).trans (mf_I lvW_fr rfl)
  have ext : ∀ r, xt τ f r = xt σ f r := fun r => by
    have e347 : sI τ 347 f = sI σ 347 f := (mf_I fr rfl).trans (mf_I lvW_fr rfl)
    simp only [xt]
    rw [e347]
    exact (mf_I fr rfl).trans (mf_I lvW_fr rfl)
  refine ⟨fun x hx => by rw [e353]; exact H.1 x hx, by rw [e353, e349]; exact H.2.1, fun r r0 r1 => ?_⟩
  rw [e353] at r1
  rw [ext]
  exact H.2.2 r r0 r1
theorem LE_lv {σ μ μ0 τ : mS} {f k live : Int32} (L : LE σ (mff μ0) f k) (fr : m_fr (fun k => [397, 398, 399].contains k) (lvW σ f live) τ) (e8 : mff μ k 8 = mff μ0 k 8) : LE τ (mff μ) f k := by
  simp only [LE] at L ⊢
  rw [e8, (mf_I fr (k := 345) rfl).trans (mf_I lvW_fr rfl), (mf_I fr (k := 257) rfl).trans (mf_I lvW_fr rfl)]
  exact L
/-- pushes -/
theorem mPu_I {μ : mS} {t i : Int32} {v : Int64} (h0 : 0 ≤ sF μ 143) (i0 : 0 ≤ i) : sI (mPu μ t v) 141 i = if i = sF μ 143 then t else sI μ 141 i := by
  rw [show sI (mPu μ t v) 141 i = sI (mW μ (sF μ 143) t v) 141 i from rfl, mW_I h0 i0]
theorem mPu_J {μ : mS} {t i : Int32} {v : Int64} (h0 : 0 ≤ sF μ 143) (i0 : 0 ≤ i) : sJ (mPu μ t v) 142 i = if i = sF μ 143 then v else sJ μ 142 i := by
  rw [show sJ (mPu μ t v) 142 i = sJ (mW μ (sF μ 143) t v) 142 i from rfl, mW_J h0 i0]
theorem mPu_y {μ : mS} {k0 B t : Int32} {v : Int64} (h0 : 0 ≤ sF μ 143) (h : B ≤ sF μ 143) : mtc k0 B μ (mPu μ t v) := mtc_tr (mW_tc h0 h) m143_tc
theorem push_mP {N : Nat} {μ : mS} {t P : Int32} {v : Int64} (h : sF μ 143 = P) (h0 : 0 ≤ P) (h1 : P < 500000) (t0 : 0 ≤ t) (t1 : t ≤ 8) : mm_push N μ t v = some (mPu μ t v) := push_m (by rw [h]; exact h0) (by rw [h]; exact h1) t0 t1
/-- three pushes -/
theorem push3 {N : Nat} {μ : mS} {k0 P t1 t2 t3 : Int32} {v1 v2 v3 : Int64} (h : sF μ 143 = P) (P0 : 0 ≤ P) (P1 : P ≤ 480000) (a1 : 0 ≤ t1 ∧ t1 ≤ 8) (a2 : 0 ≤ t2 ∧ t2 ≤ 8) (a3 : 0 ≤ t3 ∧ t3 ≤ 8) : ∃ τ, (∀ {α : Type} (k : mS → Option α), bd (mm_push N μ t1 v1) (fun z5 => bd (mm_push N z5 t2 v2) (fun z6 => bd (mm_push N z6 t3 v3) k)) = k τ) ∧ sF τ 143 = P + 3 ∧ mtc k0 P μ τ ∧ m_fr (fun k => [141, 142, 143, 153].contains k) μ τ ∧ (sI τ 141 P = t1 ∧ sJ τ 142 P = v1) ∧ (sI τ 141 (P + 1) = t2 ∧ sJ τ 142 (P + 1) = v2) ∧ (sI τ 141 (P + 2) = t3 ∧ sJ τ 142 (P + 2) = v3) := by
  have bb := bnd3 P0 P1
  have h1 : sF (mPu μ t1 v1) 143 = P + 1 := by rw [mPu_143, h]
  have h2 : sF (mPu (mPu μ t1 v1) t2 v2) 143 = P + 2 := by rw [mPu_143, h1]; lia
  have h3 : sF (mPu (mPu (mPu μ t1 v1) t2 v2) t3 v3) 143 = P + 3 := by rw [mPu_143, h2]; lia
  have g0 : 0 ≤ sF μ 143 := by rw [h]; exact P0
  have g1 : 0 ≤ sF (mPu μ t1 v1) 143 := by rw [h1]; exact bb.2.1.1
  have g2 : 0 ≤ sF (mPu (mPu μ t1 v1) t2 v2) 143 := by rw [h2]; exact bb.2.2.1.1
  have n1 : ¬ P = P + 1 := by lia
  have n2 : ¬ P = P + 2 := by lia
  have n3 : ¬ P + 1 = P + 2 := by lia
  refine ⟨mPu (mPu (mPu μ t1 v1) t2 v2) t3 v3, fun k => ?_, h3, mtc_tr (mtc_tr (mPu_y g0 (by rw [h]; exact Int32.le_refl _)) (mPu_y g1 (by rw [h1]; lia))) (mPu_y g2 (by rw [h2]; lia)), mf_tr (mf_tr mPu_fr mPu_fr) mPu_fr, ?_, ?_, ?_⟩
  · rw [push_mP h bb.1.1 bb.1.2 a1.1 a1.2, bd_so, push_mP h1 bb.2.1.1 bb.2.1.2 a2.1 a2.2, bd_so, push_mP h2 bb.2.2.1.1 bb.2.2.1.2 a3.1 a3.2, bd_so]
  · rw [mPu_I g2 bb.1.1, mPu_J g2 bb.1.1, h2, if_neg n2, if_neg n2, mPu_I g1 bb.1.1, mPu_J g1 bb.1.1, h1, if_neg n1, if_neg n1, mPu_I g0 bb.1.1, mPu_J g0 bb.1.1, h, if_pos rfl, if_pos rfl]
    exact ⟨rfl, rfl⟩
  · rw [mPu_I g2 bb.2.1.1, mPu_J g2 bb.2.1.1, h2, if_neg n3, if_neg n3, mPu_I g1 bb.2.1.1, mPu_J g1 bb.2.1.1, h1, if_pos rfl, if_pos rfl]
    exact ⟨rfl, rfl⟩
  · rw [mPu_I g2 bb.2.2.1.1, mPu_J g2 bb.2.2.1.1, h2, if_pos rfl, if_pos rfl]
    exact ⟨rfl, rfl⟩
theorem k_01 {k : Int32} (k0 : 0 ≤ k) (k1 : k < 2) : k = 0 ∨ k = 1 := by lia
/-- a handler is called with two values -/
theorem handle_S {e : EV} {w : WD} {xf : Int32 → List Int32} {c d : Int32} {rest : PL2} {f : Int32} {fl : List Int32} {ρ : List Int32} {g p q F n : Int32} {σ μ : mS} {μ0 : mS} {M rk : Nat} {P h t1 t2 md rg live th : Int32} {v1 v2 : Int64} (C : CXT e M F n rk) (A : PT e w xf c d rest f fl ρ (-1) g p q F n σ μ0) (zl : ρ.length ≤ 2000) (hP : P = mff μ0 (n - 1) 3 + Int32.ofNat ρ.length) (y : mtc (n - 1) P μ0 μ) (hq : mff μ (n - 1) 2 = q) (e8 : mff μ (n - 1) 8 = mff μ0 (n - 1) 8) (L : LE σ (mff μ0) f (n - 1)) (V : LVd σ f ρ live) (h0 : 0 ≤ h) (h1 : h < 20000) (hv : VV w (sI σ 214 h) (sJ σ 215 h) (sI μ 141 P) (sJ μ 142 P)) (w1 : VV w t1 v1 (sI μ 141 (P + 1)) (sJ μ 142 (P + 1))) (w2 : VV w t2 v2 (sI μ 141 (P + 2)) (sJ μ 142 (P + 2))) (top : sF μ 143 = P + 3) (ct : ctS (eS e) (sI (eσ e) 261 g) g p q ρ md rg 1 1 th) : G2 e 1000 (M + 1) (xx6_handle (eN e) σ h t1 v1 t2 v2 md rg live) (mm_call (eN e) μ P 2 1 th) := by
  obtain ⟨e339, ec, e326⟩ := top_c A
  have f01 := (PT_N A).1
  have b1 := (VV_t8 w1).1
  have b2 := (VV_t8 w2).1
  have g1 := arg_x (N := eN e) (σ := lvW σ f live) (k := 0) (v := v1) (by simp only [lvW, sF_pi, sF_pl, sF_ai, sF_al, sG_pi, sG_pl, sG_ai, sG_al, sI_pi, sI_pl, sI_al, sI_ai1, sI_ai2, sJ_pi, sJ_pl, sJ_ai, sJ_al1, sJ_al2, Nat.reduceEqDiff, if_true, if_false, ne_eq, not_false_eq_true, ite_true, ite_false]) (by decide) (by decide) b1.1 b1.2
  have g2 := arg_x (N := eN e) (σ := aW (lvW σ f live) 0 t1 v1) (k := 1) (v := v2) aW_399 (by decide) (by decide) b2.1 b2.2
  have fr : m_fr (fun k => [397, 398, 399].contains k) (lvW σ f live) (aW (aW (lvW σ f live) 0 t1 v1) 1 t2 v2) := mf_tr aW_fr aW_fr
  have x := lvW_tc (R := sI (eσ e) 261 g) f01.1 fr
  have e339' : σ.1 339 = c := e339
  have e326' : σ.2.2.1 326 c.toNatClampNeg = f := e326
  have AR2 : AR w (aW (aW (lvW σ f live) 0 t1 v1) 1 t2 v2) μ P 2 := by
    refine ⟨aW_399, by decide, by decide, by rw [top]; lia, fun k k0 k1 => ?_⟩
    rcases k_01 k0 k1 with rfl | rfl
    · rw [aW_I (by decide) (by decide), aW_J (by decide) (by decide), if_neg (by decide), if_neg (by decide), aW_I (by decide) (by decide), aW_J (by decide) (by decide), if_pos rfl, if_pos rfl, show P + 1 + 0 = P + 1 from by lia]
      exact w1
    · rw [aW_I (by decide) (by decide), aW_J (by decide) (by decide), if_pos rfl, if_pos rfl, show P + 1 + 1 = P + 2 from by lia]
      exact w2
  have BS := begin_S C A zl hP x y ((mf_I fr rfl).trans ((mf_I lvW_fr rfl).trans A.2.2.1)) hq (fun x _ _ => ⟨by simp only [xt]; rw [(mf_I fr (k := 347) rfl).trans (mf_I lvW_fr rfl)]; exact (mf_I fr rfl).trans (mf_I lvW_fr rfl), by simp only [xv]; rw [(mf_I fr (k := 347) rfl).trans (mf_I lvW_fr rfl)]; exact (mf_J fr rfl).trans (mf_J lvW_fr rfl)⟩) (LE_lv L fr e8) (LVd_V f01.1 V fr) AR2 hv ct
  rw [xx6_handle, e339', gd_in (by decide) ec.1 ec.2, e326', gd_in (by decide) f01.1 f01.2, lt, lt]
  rw [show md_pi (md_ai σ 353 f.toNatClampNeg live) 399 0 = lvW σ f live from rfl, g1, bd_so, g2, bd_so, gd_in (by decide) h0 h1, gd_in (by decide) h0 h1, bx_me (fun z => rfl)]
  exact BS
