/-! LAYER 2: one step of the two machines: behind what comes first; one value more -/
theorem xP_tc {σ : mS} {f p wd R : Int32} (f0 : 0 ≤ f) : xtc f R σ (xP σ f p wd) := by
  refine ⟨mf_mono xP_fr (fun k hk => ?_), fun k hk g g0 gf => ?_, fun i _ _ => ⟨mf_I xP_fr rfl, mf_J xP_fr rfl⟩⟩
  · simp only [xT, inR, List.contains_cons, List.contains_nil, Bool.or_eq_false_iff, beq_eq_false_iff_ne, Bool.and_eq_false_iff, decide_eq_false_iff_not] at hk ⊢
    (repeat' (first | exact trivial | omega | apply And.intro))
  · rcases hk with rfl | rfl | rfl | rfl
    · rw [xP_345 f0 g0, if_neg gf]
    · rw [xP_346 f0 g0, if_neg gf]
    · exact mf_I xP_fr rfl
    · exact mf_I xP_fr rfl
theorem actP_tc {μ : mS} {k q B : Int32} (k0 : 0 ≤ k) : mtc k B μ (actP μ k q) := by
  refine ⟨mf_mono actP_fr (fun k hk => ?_), fun j hj i i0 ik => ?_, fun i _ _ => ⟨mf_I actP_fr rfl, mf_J actP_fr rfl⟩⟩
  · simp only [nT, inR, List.contains_cons, List.contains_nil, Bool.or_eq_false_iff, beq_eq_false_iff_ne, Bool.and_eq_false_iff, decide_eq_false_iff_not] at hk ⊢
    (repeat' (first | exact trivial | omega | apply And.intro))
  · have ne : ¬ i = k := fun q => by rw [q] at ik; exact Int32.lt_irrefl ik
    rcases hj with rfl | rfl | rfl
    · rw [actP_146 k0 i0, if_neg ne]
    · rw [actP_152 k0 i0, if_neg (fun h => ne h.1)]
    · exact mf_I actP_fr rfl
/-- registers and values lie as before -/
theorem TP_P {P Q : Nat → Bool} {w : WD} {σ μ τ τm : mS} {f k m : Int32} {ρ : List Int32} (H : TP w σ μ f k ρ m) (fr : m_fr P σ τ) (frm : m_fr Q μ τm) (hp : ∀ k, k = 347 ∨ k = 354 ∨ k = 364 ∨ k = 365 → P k = false) (hq : ∀ k, k = 141 ∨ k = 142 ∨ k = 143 ∨ k = 147 ∨ k = 153 → Q k = false) : TP w τ τm f k ρ m := by
  have e141 : sI τm 141 = sI μ 141 := by funext i; exact mf_I frm (hq 141 (by omega))
  have e142 : sJ τm 142 = sJ μ 142 := by funext i; exact mf_J frm (hq 142 (by omega))
  have e143 : sF τm 143 = sF μ 143 := mf_F frm (hq 143 (by omega))
  have e3 : mff τm k 3 = mff μ k 3 := mf_I frm (hq 147 (by omega))
  have e9 : mff τm k 9 = mff μ k 9 := mf_I frm (hq 153 (by omega))
  have ext : xt τ = xt σ := by funext g i; simp only [xt, mf_I fr (hp 347 (by omega)), mf_I fr (hp 364 (by omega))]
  have exv : xv τ = xv σ := by funext g i; simp only [xv, mf_I fr (hp 347 (by omega)), mf_J fr (hp 365 (by omega))]
  have rg : ∀ {B : Int32} {l : List Int32}, RG w σ f (sI μ 141) (sJ μ 142) B l → RG w τ f (sI μ 141) (sJ μ 142) B l := fun {B l} h => RG_cg h wle_rfl (fun x _ _ => by rw [ext, exv]; exact ⟨rfl, rfl⟩) (fun j _ => ⟨rfl, rfl⟩)
  simp only [TP] at H ⊢
  rw [e141, e142, e143, e3, e9, mf_I fr (hp 354 (by omega)), ext, exv]
  rcases H with ⟨h1, h2, h3⟩ | ⟨h1, ρ0, r, h2, h3, h4, h5⟩ | ⟨h1, n, h2, h3, h4, h5, h6⟩
  · exact .inl ⟨h1, rg h2, h3⟩
  · exact .inr (.inl ⟨h1, ρ0, r, h2, h3, rg h4, h5⟩)
  · exact .inr (.inr ⟨h1, n, h2, h3, rg h4, rg h5, h6⟩)
/-- behind what comes first: at the next point, with the values of the last one -/
def ST (e : EV) (w : WD) (xf : Int32 → List Int32) (c d : Int32) (rest : PL2) (f : Int32) (fl : List Int32) (ρ : List Int32) (m : Int32) (g p q F n : Int32) (σ μ : mS) : Prop := PT e w xf c d rest f fl ρ m g p q F n σ μ ∧ sF σ 410 = sI σ 347 f ∧ sF σ 411 = f
/-- the system has begun its step -/
theorem PT_sx {e : EV} {w : WD} {xf : Int32 → List Int32} {c d : Int32} {rest : PL2} {f : Int32} {fl : List Int32} {ρ : List Int32} {m : Int32} {g p q F n : Int32} {σ μ : mS} (A : PT e w xf c d rest f fl ρ m g p q F n σ μ) (wd : Int32) : ST e w xf c d rest f fl ρ m g (p + wd) q F n (xP σ f p wd) μ ∧ sI (xP σ f p wd) 345 f = p := by
  obtain ⟨⟨H, T⟩, a1, a2, a3, a4, a5⟩ := A
  have f0 := (MR0_f H).1.1
  refine ⟨⟨⟨⟨MR0_tc H (xP_tc f0) mtc_rfl, TP_P (Q := fun _ => false) T xP_fr mf_rfl (fun k hk => by rcases hk with rfl | rfl | rfl | rfl <;> rfl) (fun k _ => rfl)⟩, (mf_I xP_fr rfl).trans a1, ?_, a3, (mf_F xP_fr rfl).trans a4, a5⟩, ?_, xP_411⟩, ?_⟩
  · rw [xP_346 f0 f0, if_pos rfl]
  · rw [xP_410]; exact (mf_I xP_fr rfl).symm
  · rw [xP_345 f0 f0, if_pos rfl]
/-- the reference has begun its act -/
theorem ST_m {e : EV} {w : WD} {xf : Int32 → List Int32} {c d : Int32} {rest : PL2} {f : Int32} {fl : List Int32} {ρ : List Int32} {m : Int32} {g p q F n : Int32} {σ μ : mS} (A : PT e w xf c d rest f fl ρ m g p q F n σ μ) : PT e w xf c d rest f fl ρ m g p (q + 1) F n σ (actP μ (n - 1) q) := by
  obtain ⟨⟨H, T⟩, a1, a2, a3, a4, a5⟩ := A
  have b := (MR0_f H).2.2.2.1
  rw [a5] at b
  have b' := at_1 b.1 b.2
  have e154 : sF (actP μ (n - 1) q) 154 = sF μ 154 := mf_F actP_fr rfl
  refine ⟨⟨MR0_tc H xtc_rfl (by rw [a5]; exact actP_tc b'.1), ?_⟩, a1, a2, ?_, a4, by rw [e154]; exact a5⟩
  · rw [e154]
    exact TP_P (P := fun _ => false) T mf_rfl actP_fr (fun k _ => rfl) (fun k hk => by rcases hk with rfl | rfl | rfl | rfl | rfl <;> rfl)
  · rw [e154, a5]
    show sI (actP μ (n - 1) q) 146 (n - 1) = _
    rw [actP_146 b'.1 b'.1, if_pos rfl]
/-- both have begun -/
theorem PT_s {e : EV} {w : WD} {xf : Int32 → List Int32} {c d : Int32} {rest : PL2} {f : Int32} {fl : List Int32} {ρ : List Int32} {m : Int32} {g p q F n : Int32} {σ μ : mS} (A : PT e w xf c d rest f fl ρ m g p q F n σ μ) (wd : Int32) : ST e w xf c d rest f fl ρ m g (p + wd) (q + 1) F n (xP σ f p wd) (actP μ (n - 1) q) :=
  ⟨ST_m (PT_sx A wd).1.1, (PT_sx A wd).1.2⟩
/-- what is known of points: registers are those of the function -/
def ZRok (e : EV) : Prop := ∀ r g p q ρ m, eZ e r g p q ρ m → ρ.length ≤ 2000 ∧ ∀ x, x ∈ ρ → dc x < sI (eσ e) 261 g
theorem PT_R {e : EV} {w : WD} {xf : Int32 → List Int32} {c d : Int32} {rest : PL2} {f : Int32} {fl : List Int32} {ρ : List Int32} {m : Int32} {g p q F n : Int32} {σ μ : mS} (A : PT e w xf c d rest f fl ρ m g p q F n σ μ) : sI σ 261 (sI σ 344 f) = sI (eσ e) 261 g := by
  rw [A.2.1, SV_cx (PT_V A) (by omega)]
/-- a register is written -/
def xS (σ : mS) (i t : Int32) (v : Int64) : mS := md_al (md_ai σ 364 i.toNatClampNeg t) 365 i.toNatClampNeg v
theorem xS_fr {σ : mS} {i t : Int32} {v : Int64} : m_fr (fun k => [354, 364, 365].contains k) σ (xS σ i t v) := mf_al (mf_ai mf_rfl rfl) rfl
theorem xS_wr {σ : mS} {i t : Int32} {v : Int64} (i0 : 0 ≤ i) (i1 : i ≤ 600000) : wrX i 1 (fun _ => t) (fun _ => v) σ (xS σ i t v) := by
  have h : wrX i 0 (fun _ => t) (fun _ => v) σ σ := ⟨fun k k0 k1 => (Int32.lt_irrefl (Int32.lt_of_le_of_lt k0 k1)).elim, fun j _ _ => ⟨rfl, rfl⟩⟩
  have := wr1_x (n := 0) h i0 i1 (Int32.le_refl 0) (by decide)
  rw [Int32.add_zero] at this
  exact this
def mPu (μ : mS) (t : Int32) (v : Int64) : mS := md_pi (md_al (md_ai μ 141 (sF μ 143).toNatClampNeg t) 142 (sF μ 143).toNatClampNeg v) 143 (sF μ 143 + 1)
theorem mPu_fr {μ : mS} {t : Int32} {v : Int64} : m_fr (fun k => [141, 142, 143, 153].contains k) μ (mPu μ t v) := mf_pi (mf_al (mf_ai mf_rfl rfl) rfl) rfl
theorem mPu_143 {μ : mS} {t : Int32} {v : Int64} : sF (mPu μ t v) 143 = sF μ 143 + 1 := by simp only [mPu, sF_pi, sF_pl, sF_ai, sF_al, sG_pi, sG_pl, sG_ai, sG_al, sI_pi, sI_pl, sI_al, sI_ai1, sI_ai2, sJ_pi, sJ_pl, sJ_ai, sJ_al1, sJ_al2, Nat.reduceEqDiff, if_true, if_false, ne_eq, not_false_eq_true, ite_true, ite_false]
theorem mPu_wr {μ : mS} {t : Int32} {v : Int64} (i0 : 0 ≤ sF μ 143) (i1 : sF μ 143 ≤ 600000) : wrM (sF μ 143) 1 (fun _ => t) (fun _ => v) μ (mPu μ t v) := by
  have h : wrM (sF μ 143) 0 (fun _ => t) (fun _ => v) μ μ := ⟨fun k k0 k1 => (Int32.lt_irrefl (Int32.lt_of_le_of_lt k0 k1)).elim, fun j _ _ => ⟨rfl, rfl⟩⟩
  have := wr1_m (t := sF μ 143 + 1) h i0 i1 (Int32.le_refl 0) (by decide)
  rw [Int32.add_zero] at this
  exact this
theorem r_1 {R r z : Int32} (h : r + 1 ≤ R) (h0 : 0 ≤ r) (h1 : r ≤ 2500) : r < R := by lia
theorem tp_1 {B : Int32} {n : Nat} (h : n ≤ 2000) (b0 : 0 ≤ B) (b1 : B ≤ 460000) : 0 ≤ B + Int32.ofNat n ∧ B + Int32.ofNat n < 490000 ∧ B + Int32.ofNat n ≤ 600000 ∧ B + Int32.ofNat n + 1 = B + Int32.ofNat (n + 1) := by
  have := oN_bd h
  have e := oN_s (a := n)
  refine ⟨by lia, by lia, by lia, by rw [← e]; lia⟩
/-- the numbers of a point -/
theorem PT_n {e : EV} (Z : ZRok e) {w : WD} {xf : Int32 → List Int32} {c d : Int32} {rest : PL2} {f : Int32} {fl : List Int32} {ρ : List Int32} {m : Int32} {g p q F n : Int32} {σ μ : mS} (A : PT e w xf c d rest f fl ρ m g p q F n σ μ) {rk : Nat} {p0 q0 : Int32} (z : eZ e rk g p0 q0 ρ m) : ρ.length ≤ 2000 ∧ (∀ x, x ∈ ρ → dc x < sI σ 349 f) ∧ (0 ≤ sI σ 347 f ∧ sI σ 347 f ≤ 560000 ∧ sI σ 347 f + sI σ 349 f ≤ 560000 ∧ sI σ 349 f ≤ 2600) ∧ (0 ≤ f ∧ f < 202) ∧ (sI (eσ e) 261 g ≤ sI σ 349 f ∧ sI (eσ e) 261 g ≤ 2500) ∧ (1 ≤ n ∧ n ≤ 200) ∧ (0 ≤ mff μ (n - 1) 3 ∧ mff μ (n - 1) 3 ≤ 460000) := by
  have b := MR0_f A.1.1
  obtain ⟨z1, z2⟩ := Z _ _ _ _ _ _ z
  have R := PT_R A
  rw [R, A.2.2.2.2.2] at b
  have b5 := b.2.2.2.2
  exact ⟨z1, fun x hx => Int32.lt_of_lt_of_le (z2 x hx) b.2.1.2.2, b.2.2.1, b.1, ⟨b.2.1.2.2, b.2.1.2.1⟩, b.2.2.2.1, Int32.le_trans b5.1 (Int32.le_of_lt b5.2.1), b5.2.2⟩
/-- a register may be written -/
theorem set_x {e : EV} {N : Nat} {w : WD} {xf : Int32 → List Int32} {c d : Int32} {rest : PL2} {f : Int32} {fl : List Int32} {ρ : List Int32} {m : Int32} {g p q F n : Int32} {σ μ : mS} (S : ST e w xf c d rest f fl ρ m g p q F n σ μ) {r t : Int32} {v : Int64} (r0 : 0 ≤ r) (r1 : r ≤ 2500) (r2 : r + 1 ≤ sI (eσ e) 261 g) (t0 : 0 ≤ t) (t1 : t ≤ 8) : (0 ≤ sI σ 347 f + r ∧ sI σ 347 f + r < 560000) ∧ xx6_set N σ r t v = some (xS σ (sI σ 347 f + r) t v) ∧ xx6_tag N σ r = some (xt σ f r, σ) ∧ xx6_value N σ r = some (xv σ f r, σ) := by
  have b := MR0_f S.1.1.1
  rw [PT_R S.1] at b
  have ir := i_reg1 b.2.2.1.1 b.2.2.1.2.1 r0 r1 r2 b.2.1.2.2 b.2.2.1.2.2.1 b.2.2.1.2.2.2
  have e410 : σ.1 410 = sI σ 347 f := S.2.1
  have e410' : (md_ai σ 364 (sI σ 347 f + r).toNatClampNeg t).1 410 = sI σ 347 f := e410
  refine ⟨ir, ?_, ?_, ?_⟩
  · rw [xx6_set, e410, gd_in (by decide) ir.1 ir.2, nar_tag t0 t1, lt, e410', gd_in (by decide) ir.1 ir.2, lt]
    rfl
  · rw [xx6_tag, e410, gd_in (by decide) ir.1 ir.2]; rfl
  · rw [xx6_value, e410, gd_in (by decide) ir.1 ir.2]; rfl
/-- one value more on both sides -/
theorem push_ST {e : EV} (Z : ZRok e) {w : WD} {xf : Int32 → List Int32} {c d : Int32} {rest : PL2} {f : Int32} {fl : List Int32} {ρ : List Int32} {g p q F n : Int32} {σ μ : mS} (S : ST e w xf c d rest f fl ρ (-1) g p q F n σ μ) {rk : Nat} {p0 q0 : Int32} (z : eZ e rk g p0 q0 ρ (-1)) {r tx tm : Int32} {vx vm : Int64} (ok : okr ρ r 1 (sI (eσ e) 261 g)) (v : VV w tx vx tm vm) {N : Nat} : xx6_set N σ r tx vx = some (xS σ (sI σ 347 f + r) tx vx) ∧ mm_push N μ tm vm = some (mPu μ tm vm) ∧ PT e w xf c d rest f fl (ρ ++ [r]) (-1) g p q F n (xS σ (sI σ 347 f + r) tx vx) (mPu μ tm vm) := by
  obtain ⟨z1, z2, z3, z4, z5, z6, z7⟩ := PT_n Z S.1 z
  have t8 := VV_t8 v
  obtain ⟨ir, s1, _, _⟩ := set_x (N := N) (t := tx) (v := vx) S ok.1 ok.2.1 ok.2.2.2.2.1 t8.1.1 t8.1.2
  obtain ⟨⟨H, T⟩, a1, a2, a3, a4, a5⟩ := S.1
  have B := tp_1 z1 z7.1 z7.2
  rcases T with ⟨_, T1, T2⟩ | ⟨h, _⟩ | ⟨h, _⟩
  case inr.inl => exact absurd h (by decide)
  case inr.inr => exact absurd h (by decide)
  rw [a5] at T1 T2
  have m0 : 0 ≤ sF μ 143 := by rw [T2]; exact B.1
  have m1 : sF μ 143 < 500000 := by rw [T2]; exact Int32.lt_trans B.2.1 (by decide)
  have m2 : sF μ 143 ≤ 600000 := by rw [T2]; exact B.2.2.1
  have pm := push_m (N := N) m0 m1 t8.2.1 t8.2.2 (v := vm)
  have lo := land_of (gt := fun _ => tx) (mt := fun _ => tm) (gv := fun _ => vx) (mv := fun _ => vm) H z1 (by rw [a5]; exact T1) z2 (rg := r) (n := 1) (by rw [PT_R S.1]; exact ok) xS_fr (fun g _ _ => rfl) (xS_wr ir.1 (Int32.le_of_lt (Int32.lt_trans ir.2 (by decide)))) mPu_fr (fun g _ _ => rfl) (by rw [a5, ← T2]; exact mPu_wr m0 m2) (fun k _ _ => v)
  have e154 : sF (mPu μ tm vm) 154 = n := (mf_F mPu_fr rfl).trans a5
  refine ⟨s1, pm, ⟨lo.1, ?_⟩, (mf_I xS_fr rfl).trans a1, (mf_I xS_fr rfl).trans a2, ?_, (mf_F xS_fr rfl).trans a4, e154⟩
  · refine .inl ⟨rfl, RG_app.mpr ⟨lo.2.1, ?_⟩, ?_⟩
    · have := lo.2.2
      rw [rng_1] at this
      exact this
    · rw [mPu_143, e154, T2, List.length_append]
      have e3 : mff (mPu μ tm vm) (n - 1) 3 = mff μ (n - 1) 3 := mf_I mPu_fr rfl
      rw [e3]
      exact B.2.2.2
  · rw [e154]
    rw [a5] at a3
    exact (mf_I mPu_fr rfl).trans a3
