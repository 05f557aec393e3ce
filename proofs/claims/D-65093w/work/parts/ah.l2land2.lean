/-! LAYER 2: what a call gives lands in the top call -/
theorem tk_xT {σ τ : mS} (fr : m_fr (fun k => [354, 364, 365].contains k) σ τ) : m_fr xT σ τ := mf_mono fr (fun k hk => by
  simp only [xT, inR, List.contains_cons, List.contains_nil, Bool.or_eq_false_iff, beq_eq_false_iff_ne, Bool.and_eq_false_iff, decide_eq_false_iff_not] at hk ⊢
  (repeat' (first | exact trivial | omega | apply And.intro)))
theorem tk_nT {σ τ : mS} (fr : m_fr (fun k => [141, 142, 143, 153].contains k) σ τ) : m_fr nT σ τ := mf_mono fr (fun k hk => by
  simp only [nT, inR, List.contains_cons, List.contains_nil, Bool.or_eq_false_iff, beq_eq_false_iff_ne, Bool.and_eq_false_iff, decide_eq_false_iff_not] at hk ⊢
  (repeat' (first | exact trivial | omega | apply And.intro)))
theorem MR0_f {e : EV} {w : WD} {xf : Int32 → List Int32} {c d : Int32} {rest : PL2} {f : Int32} {fl : List Int32} {σ μ : mS} (H : MR0 e w xf c d rest f fl σ μ) : (0 ≤ f ∧ f < 202) ∧ (0 < sI σ 261 (sI σ 344 f) ∧ sI σ 261 (sI σ 344 f) ≤ 2500 ∧ sI σ 261 (sI σ 344 f) ≤ sI σ 349 f) ∧ (0 ≤ sI σ 347 f ∧ sI σ 347 f ≤ 560000 ∧ sI σ 347 f + sI σ 349 f ≤ 560000 ∧ sI σ 349 f ≤ 2600) ∧ (1 ≤ sF μ 154 ∧ sF μ 154 ≤ 200) ∧ (0 ≤ mff μ (sF μ 154 - 1) 5 ∧ mff μ (sF μ 154 - 1) 5 < mff μ (sF μ 154 - 1) 3 ∧ mff μ (sF μ 154 - 1) 3 ≤ 460000) := by
  obtain ⟨H1, V, hf, hk, hB, FCx, FLx⟩ := H
  obtain ⟨c1, c2, c3, c4, c5, c6, c7, c8, c9, c10, c11, c12, c13⟩ := FCx
  have cl := ME_calls H1
  have kb' := BC_kb H1.2.2.2.2.2.1
  simp only at kb'
  have hc := (ME_c H1).1
  have at' := XF_at H1.2.2.2.1 (fAll_mem hc (by rw [hf]; exact List.mem_cons_self))
  have fz : sI σ 349 f ≠ 0 := by have := c9.2.1; have := c7.2; lia
  have fb := at'.2.2.2 fz
  have h7 := c7.2
  have h9 := c9.2
  have h91 := c9.1
  have g1 : sI σ 261 (sI σ 344 f) ≤ sI σ 349 f := by lia
  have g2 : 1 ≤ sF μ 154 := by lia
  have g3 : mff μ (sF μ 154 - 1) 5 < mff μ (sF μ 154 - 1) 3 := by lia
  have g4 : 0 ≤ mff μ (sF μ 154 - 1) 5 := by lia
  have g5 : mff μ (sF μ 154 - 1) 5 ≤ 2300 * (sF μ 154 - 1) := by lia
  have g6 : mff μ (sF μ 154 - 1) 5 ≤ 459000 := by lia
  exact ⟨c1, ⟨h9.1, h9.2, g1⟩, ⟨fb.1, fb.2.1, fb.2.2, at'.2.2.1⟩, ⟨g2, cl.2.1⟩, g4, g3, by lia⟩
theorem tI_ad {a b : Int32} (a0 : 0 ≤ a) (a1 : a ≤ 1000000) (b0 : 0 ≤ b) (b1 : b ≤ 1000000) : (a + b).toInt = a.toInt + b.toInt := by
  rw [tI_le] at a0 a1 b0 b1
  have z : (0 : Int32).toInt = 0 := rfl
  have z1 : (1000000 : Int32).toInt = 1000000 := rfl
  rw [tI_add] <;> omega
theorem i_reg {b rg n R i : Int32} (b0 : 0 ≤ b) (b1 : b ≤ 560000) (o1 : 0 ≤ rg) (o2 : rg ≤ 2500) (o3 : 0 ≤ n) (o4 : n ≤ 2500) (o5 : rg + n ≤ R) (R1 : R ≤ 2600) (h : i < b ∨ b + R ≤ i) : i < b + rg ∨ b + rg + n ≤ i := by
  have q1 : 0 ≤ b + rg := by lia
  have q2 : b + rg ≤ 1000000 := by lia
  have q3 : 0 ≤ rg + n := by lia
  have q4 : 0 ≤ R := by lia
  have q5 : R ≤ 1000000 := by lia
  have e1 := tI_ad b0 (by lia) o1 (by lia)
  have e2 := tI_ad o1 (by lia) o3 (by lia)
  have e3 := tI_ad q1 q2 o3 (by lia)
  have e4 := tI_ad b0 (by lia) q4 q5
  rw [tI_le] at o1 o5
  have z : (0 : Int32).toInt = 0 := rfl
  rcases h with h | h
  · left
    rw [tI_lt] at h ⊢
    omega
  · right
    rw [tI_le] at h ⊢
    omega
theorem i_reg1 {b rg R z : Int32} (b0 : 0 ≤ b) (b1 : b ≤ 560000) (o1 : 0 ≤ rg) (o2 : rg ≤ 2500) (o5 : rg + 1 ≤ R) (R1 : R ≤ z) (h : b + z ≤ 560000) (z1 : z ≤ 2600) : 0 ≤ b + rg ∧ b + rg < 560000 := by
  have q3 : 0 ≤ rg + 1 := by lia
  have q4 : 0 ≤ z := by lia
  have e1 := tI_ad b0 (by lia) o1 (by lia)
  have e2 := tI_ad (b := 1) o1 (by lia) (by decide) (by decide)
  have e4 := tI_ad b0 (by lia) q4 (by lia)
  rw [tI_le] at b0 o1 o5 R1 h
  have z0 : (0 : Int32).toInt = 0 := rfl
  have z2 : (1 : Int32).toInt = 1 := rfl
  have z3 : (560000 : Int32).toInt = 560000 := rfl
  rw [tI_le, tI_lt]
  omega
theorem land_of {e : EV} {w : WD} {xf : Int32 → List Int32} {c d : Int32} {rest : PL2} {f : Int32} {fl : List Int32} {σ μ τ τm : mS} {ρ : List Int32} {rg n : Int32} {gt mt : Int32 → Int32} {gv mv : Int32 → Int64} (H : MR0 e w xf c d rest f fl σ μ) (hρ : ρ.length ≤ 2000) (R : RG w σ f (sI μ 141) (sJ μ 142) (mff μ (sF μ 154 - 1) 3) ρ) (hrx : ∀ x, x ∈ ρ → dc x < sI σ 349 f) (ok : okr ρ rg n (sI σ 261 (sI σ 344 f))) (fx : m_fr (fun k => [354, 364, 365].contains k) σ τ) (x354 : ∀ g, 0 ≤ g → g ≠ f → sI τ 354 g = sI σ 354 g) (wx : wrX (sI σ 347 f + rg) n gt gv σ τ) (fm : m_fr (fun k => [141, 142, 143, 153].contains k) μ τm) (m153 : ∀ g, 0 ≤ g → g ≠ sF μ 154 - 1 → sI τm 153 g = sI μ 153 g) (wm : wrM (mff μ (sF μ 154 - 1) 3 + Int32.ofNat ρ.length) n mt mv μ τm) (hv : ∀ k, 0 ≤ k → k < n → VV w (gt k) (gv k) (mt k) (mv k)) : MR0 e w xf c d rest f fl τ τm ∧ RG w τ f (sI τm 141) (sJ τm 142) (mff τm (sF τm 154 - 1) 3) ρ ∧ RG w τ f (sI τm 141) (sJ τm 142) (mff τm (sF τm 154 - 1) 3 + Int32.ofNat ρ.length) (rng rg n) := by
  obtain ⟨g1, g2, g3, g4, g5⟩ := MR0_f H
  obtain ⟨o1, o2, o3, o4, o5, o6⟩ := ok
  have lb := oN_bd hρ
  have e154 : sF τm 154 = sF μ 154 := mf_F fm rfl
  have e3 : ∀ k, mff τm k 3 = mff μ k 3 := fun k => mf_I fm rfl
  have e347 : sI τ 347 f = sI σ 347 f := mf_I fx rfl
  have X : xtc f (sI σ 261 (sI σ 344 f)) σ τ := by
    refine ⟨tk_xT fx, fun k hk g g0 gf => ?_, fun i i0 i1 => wx.2 i i0 (i_reg g3.1 g3.2.1 o1 o2 o3 o4 o5 (by lia) i1)⟩
    rcases hk with rfl | rfl | rfl | rfl
    · exact mf_I fx rfl
    · exact mf_I fx rfl
    · exact mf_I fx rfl
    · exact x354 g g0 gf
  have Y : mtc (sF μ 154 - 1) (mff μ (sF μ 154 - 1) 3) μ τm := by
    refine ⟨tk_nT fm, fun k hk g g0 gf => ?_, fun i i0 i1 => wm.2 i i0 (by lia)⟩
    rcases hk with rfl | rfl | rfl
    · exact mf_I fm rfl
    · exact mf_I fm rfl
    · exact m153 g g0 (by lia)
  refine ⟨MR0_tc H X Y, ?_, ?_⟩
  · rw [e154, e3]
    refine RG_cg R wle_rfl (fun x hx x0 => ?_) (fun j hj => ?_)
    · have q := o6 x hx
      have q2 := hrx x hx
      simp only [xt, xv]
      rw [e347]
      exact wx.2 _ (by lia) (by lia)
    · have lj := oN_lt2 hj hρ
      exact wm.2 _ (by lia) (by lia)
  · rw [e154, e3]
    refine RG_rng o1 (by lia) (by lia) (fun k k0 k1 => ?_)
    simp only [xt, xv]
    rw [e347, show sI σ 347 f + (rg + k) = sI σ 347 f + rg + k by lia, (wx.1 k k0 k1).1, (wx.1 k k0 k1).2, (wm.1 k k0 k1).1, (wm.1 k k0 k1).2]
    exact hv k k0 k1
theorem mg_tag {w : WD} {σ μ : mS} {n : Int32} (H : GV w σ μ n) : (∀ k, 0 ≤ k → 0 ≤ tg σ k ∧ tg σ k ≤ 8) ∧ (∀ k, 0 ≤ k → 0 ≤ mg μ k ∧ mg μ k ≤ 8) := ⟨fun k k0 => by
  have := VV_tag (GV_at H k0)
  exact ⟨this.1, this.2.1⟩, fun k k0 => by
  have := VV_tag (GV_at H k0)
  exact ⟨this.2.2.1, by lia⟩⟩
theorem oN_cl' {n : Int32} (h : 0 ≤ n) : Int32.ofNat n.toNatClampNeg = n := by
  rw [tI_eq, tI_cl, tI_lit (by have := tI_rng n; omega)]
  rw [tI_le] at h
  have z : (0 : Int32).toInt = 0 := rfl
  omega
theorem VV_true {w : WD} {tx tm : Int32} {vx vm : Int64} (v : VV w tx vx tm vm) : (1 < tx ↔ ¬ (tm = 0 ∨ (tm = 1 ∧ vm = 0))) := by
  rcases v with ⟨rfl, rfl, rfl, rfl⟩ | ⟨rfl, rfl, rfl, rfl⟩ | ⟨rfl, rfl, rfl, rfl⟩ | ⟨rfl, rfl, rfl⟩ | ⟨rfl, rfl, _⟩ | ⟨rfl, rfl, _⟩ | ⟨rfl, rfl, _⟩ | ⟨rfl, rfl, _⟩ | ⟨rfl, rfl, _⟩ <;> simp <;> decide
theorem isTrue_m {N : Nat} {μ : mS} {t : Int32} {v : Int64} : mm_isTrue N μ t v = some ((if t = 0 ∨ (t = 1 ∧ v = 0) then 0 else 1), μ) := by
  simp only [mm_isTrue, mm_isTrue_15, mm_isTrue_19, mm_isTrue_20, lgc_eq]
  by_cases a : t = 0
  · rw [if_pos a, if_pos (.inl a)]; rfl
  · rw [if_neg a]
    by_cases b : t = 1
    · rw [if_pos b]
      by_cases c : v = 0
      · rw [if_pos c, if_pos (.inr ⟨b, c⟩)]; rfl
      · rw [if_neg c, if_neg (fun z => z.elim a (fun z => c z.2))]; rfl
    · rw [if_neg b, if_neg (fun z => z.elim a (fun z => b z.1))]; rfl
/-- one value is pushed where a call's place was -/
theorem fin1_m {N : Nat} {T : ty_finish} {μ : mS} {to th : Int32} (hth : th = 1 ∨ th = 2) (t0 : 0 ≤ to) (t1 : to < 490000) (cn : 0 ≤ sF μ 190) (cn1 : sF μ 190 ≤ 100) (wn : Int32) : ∃ τm, mb_finish N T μ to wn th = some τm ∧ m_fr (fun k => [141, 142, 143].contains k) μ τm ∧ sF τm 143 = to + 1 ∧ wrM to 1 (fun _ => 1) (fun _ => if (mg μ 0 = 0 ∨ (mg μ 0 = 1 ∧ mgv μ 0 = 0)) ↔ th = 2 then 1 else 0) μ τm := by
  have w1 : ∀ (v : Int64), wrM to 1 (fun _ => 1) (fun _ => v) μ (md_pi (md_al (md_ai (md_pi μ 143 to) 141 to.toNatClampNeg 1) 142 to.toNatClampNeg v) 143 (to + 1)) := fun v => by
    refine ⟨fun k k0 k1 => ?_, fun i i0 i1 => ?_⟩
    · have : k = 0 := by lia
      subst this
      have e : to + 0 = to := by lia
      rw [e]
      simp (disch := lia) only [sF_pi, sF_pl, sF_ai, sF_al, sG_pi, sG_pl, sG_ai, sG_al, sI_pi, sI_pl, sI_al, sI_ai1, sI_ai2, sJ_pi, sJ_pl, sJ_ai, sJ_al1, sJ_al2, Nat.reduceEqDiff, if_true, if_false, ne_eq, not_false_eq_true, ite_true, ite_false]
      exact ⟨trivial, trivial⟩
    · simp (disch := lia) only [sF_pi, sF_pl, sF_ai, sF_al, sG_pi, sG_pl, sG_ai, sG_al, sI_pi, sI_pl, sI_al, sI_ai1, sI_ai2, sJ_pi, sJ_pl, sJ_ai, sJ_al1, sJ_al2, Nat.reduceEqDiff, if_true, if_false, ne_eq, not_false_eq_true, ite_true, ite_false, sI_ai t0 i0, sJ_al t0 i0, true_and]
      rw [if_neg (by lia), if_neg (by lia)]
      exact ⟨rfl, rfl⟩
  have pp : ∀ v : Int64, mm_push N (md_pi μ 143 to) 1 v = some (md_pi (md_al (md_ai (md_pi μ 143 to) 141 to.toNatClampNeg 1) 142 to.toNatClampNeg v) 143 (to + 1)) := fun v => by
    have h : sF (md_pi μ 143 to) 143 = to := by simp only [sF_pi, sF_pl, sF_ai, sF_al, sG_pi, sG_pl, sG_ai, sG_al, sI_pi, sI_pl, sI_al, sI_ai1, sI_ai2, sJ_pi, sJ_pl, sJ_ai, sJ_al1, sJ_al2, Nat.reduceEqDiff, if_true, if_false, ne_eq, not_false_eq_true, ite_true, ite_false]
    have := push_m (N := N) (μ := md_pi μ 143 to) (t := 1) (v := v) (by rw [h]; exact t0) (by rw [h]; lia) (by decide) (by decide)
    rw [h] at this
    exact this
  have fr : ∀ v : Int64, m_fr (fun k => [141, 142, 143].contains k) μ (md_pi (md_al (md_ai (md_pi μ 143 to) 141 to.toNatClampNeg 1) 142 to.toNatClampNeg v) 143 (to + 1)) := fun v => mf_pi (mf_al (mf_ai (mf_pi mf_rfl rfl) rfl) rfl) rfl
  have f143 : ∀ v : Int64, sF (md_pi (md_al (md_ai (md_pi μ 143 to) 141 to.toNatClampNeg 1) 142 to.toNatClampNeg v) 143 (to + 1)) 143 = to + 1 := fun v => by simp only [sF_pi, sF_pl, sF_ai, sF_al, sG_pi, sG_pl, sG_ai, sG_al, sI_pi, sI_pl, sI_al, sI_ai1, sI_ai2, sJ_pi, sJ_pl, sJ_ai, sJ_al1, sJ_al2, Nat.reduceEqDiff, if_true, if_false, ne_eq, not_false_eq_true, ite_true, ite_false]
  refine ⟨_, ?_, fr _, f143 _, w1 _⟩
  by_cases d : sF μ 190 ≤ 0
  · have e1 : mg μ 0 = 0 := if_neg (by lia)
    rcases hth with rfl | rfl
    · rw [if_neg (fun q => absurd (q.mp (.inl e1)) (by decide))]
      simp (disch := lia) only [mb_finish, mm_finish_344, mm_finish_345, mm_finish_366, mm_finish_374, lt, gd_in, if_pos, if_neg, ↓reduceIte, gd_z0, gd_z1, gd_tt, sF_fold, sG_fold, sI_fold, sJ_fold, pp, bd]
    · rw [if_pos ⟨fun _ => rfl, fun _ => .inl e1⟩]
      simp (disch := lia) only [mb_finish, mm_finish_344, mm_finish_345, mm_finish_366, mm_finish_374, lt, gd_in, if_pos, if_neg, ↓reduceIte, gd_z0, gd_z1, gd_tt, sF_fold, sG_fold, sI_fold, sJ_fold, pp, bd]
  · have e1 : mg μ 0 = sI μ 188 0 := if_pos (by lia)
    have e2 : mgv μ 0 = sJ μ 189 0 := if_pos (by lia)
    rw [e1, e2]
    by_cases z : sI μ 188 0 = 0 ∨ (sI μ 188 0 = 1 ∧ sJ μ 189 0 = 0)
    · have it : mm_isTrue N μ (sI μ 188 0) (sJ μ 189 0) = some (0, μ) := by rw [isTrue_m, if_pos z]
      rcases hth with rfl | rfl
      · rw [if_neg (fun q => absurd (q.mp z) (by decide))]
        simp (disch := lia) only [mb_finish, mm_finish_344, mm_finish_345, mm_finish_366, mm_finish_374, lt, gd_in, if_pos, if_neg, ↓reduceIte, gd_z0, gd_z1, gd_tt, sF_fold, sG_fold, sI_fold, sJ_fold, it, pp, bd]
      · rw [if_pos ⟨fun _ => rfl, fun _ => z⟩]
        simp (disch := lia) only [mb_finish, mm_finish_344, mm_finish_345, mm_finish_366, mm_finish_374, lt, gd_in, if_pos, if_neg, ↓reduceIte, gd_z0, gd_z1, gd_tt, sF_fold, sG_fold, sI_fold, sJ_fold, it, pp, bd]
    · have it : mm_isTrue N μ (sI μ 188 0) (sJ μ 189 0) = some (1, μ) := by rw [isTrue_m, if_neg z]
      rcases hth with rfl | rfl
      · rw [if_pos ⟨fun q => absurd q z, fun q => absurd q (by decide)⟩]
        simp (disch := lia) only [mb_finish, mm_finish_344, mm_finish_345, mm_finish_366, mm_finish_374, lt, gd_in, if_pos, if_neg, ↓reduceIte, gd_z0, gd_z1, gd_tt, sF_fold, sG_fold, sI_fold, sJ_fold, it, pp, bd]
      · rw [if_neg (fun q => z (q.mpr rfl))]
        simp (disch := lia) only [mb_finish, mm_finish_344, mm_finish_345, mm_finish_366, mm_finish_374, lt, gd_in, if_pos, if_neg, ↓reduceIte, gd_z0, gd_z1, gd_tt, sF_fold, sG_fold, sI_fold, sJ_fold, it, pp, bd]
theorem XL_uq {e : EV} {M : Nat} {σ : mS} {r r' : Int32 × mS} (h : XL e M σ r) (h' : XL e M σ r') : r = r' := Option.some.inj ((h (M + 1) (M + 1) (by omega) (by omega)).symm.trans (h' (M + 1) (M + 1) (by omega) (by omega)))
theorem f227 {k : Nat} (h : k ≠ 227) : (k == 227) = false := by simpa using h
theorem MR_227 {e : EV} {w : WD} {xf : Int32 → List Int32} {c d : Int32} {rest : PL2} {f : Int32} {fl : List Int32} {ρ : List Int32} {m : Int32} {σ μ μ2 : mS} (H : MR e w xf c d rest f fl ρ m σ μ) (fr : m_fr (fun k => k == 227) μ μ2) : MR e w xf c d rest f fl ρ m σ μ2 := by
  have e154 : sF μ2 154 = sF μ 154 := mf_F fr rfl
  refine ⟨MR0_tc H.1 xtc_rfl ⟨mf_mono fr (fun k hk => ?_), fun k hk i _ _ => mf_I fr (f227 (by omega)), fun i _ _ => ⟨mf_I fr rfl, mf_J fr rfl⟩⟩, ?_⟩
  · simp only [nT, inR, List.contains_cons, List.contains_nil, Bool.or_eq_false_iff, beq_eq_false_iff_ne, Bool.and_eq_false_iff, decide_eq_false_iff_not] at hk
    exact f227 (by omega)
  · rw [e154]
    exact TP_fr H.2 wle_rfl (mf_rfl (P := fun _ => false)) fr (fun _ _ => rfl) (fun k hk => f227 (by simp only [kM] at hk; omega))
theorem HG_F {e : EV} {M : Nat} {F n : Int32} (G : HG e M F n) {w : WD} {xf : Int32 → List Int32} {c d : Int32} {rest : PL2} {f : Int32} {fl : List Int32} {ρ : List Int32} {m : Int32} {rk : Nat} {σ μ : mS} (H : MR e w xf c d rest f fl ρ m σ μ) (r1 : rk ≤ 2000000) (z : eZ e rk (sI σ 344 f) (sI σ 346 f) (mff μ (sF μ 154 - 1) 2) ρ m) (hF : sF σ 396 = F) (hn : sF μ 154 ≤ n) : ∃ rx, XL e M σ rx ∧ MF e M μ rx := by
  obtain ⟨rx, rm, x1, _, _⟩ := G w xf c d rest f fl ρ m rk σ μ H r1 z hF hn
  refine ⟨rx, x1, fun μ2 fr => ?_⟩
  have e154 : sF μ2 154 = sF μ 154 := mf_F fr rfl
  have e2 : mff μ2 (sF μ2 154 - 1) 2 = mff μ (sF μ 154 - 1) 2 := by rw [e154]; exact mf_I fr rfl
  obtain ⟨rx', rm', y1, y2, y3⟩ := G w xf c d rest f fl ρ m rk σ μ2 (MR_227 H fr) r1 (by rw [e2]; exact z) hF (by rw [e154]; exact hn)
  exact ⟨rm', y2, by rw [XL_uq x1 y1]; exact y3⟩
/-- what is given lands: the run goes on -/
theorem land_2 {e : EV} (E : EVok e) {M : Nat} {F n0 : Int32} (G : HG e M F n0) {w : WD} {xf : Int32 → List Int32} {c d : Int32} {rest : PL2} {f : Int32} {fl : List Int32} {σ μ : mS} {gn : Int32} {ct : CT} (H1 : ME (eS e) (eK e) (eQ e) w xf c d rest σ μ) (V : SV e w σ μ) (hf : xf c = f :: fl) (FLx : FL (eS e) w σ (mff μ) (sI μ 141) (sJ μ 142) (btO d) (sI μ 162 d) (sI μ 161 d) (f :: fl) (sF μ 154) ct) (hs : sI σ 355 f = 0) (gv : GV w σ μ gn) (g1 : gn ≤ 100) (hF : sF σ 396 = F) (hn : sF μ 154 ≤ n0) (T : ty_finish) : ∃ τ τm, xx6_take (eN e) σ f ct.1 ct.2.1 ct.2.2.1 = some τ ∧ mb_finish (eN e) T μ ct.2.2.2.1 ct.2.2.2.2.1 ct.2.2.2.2.2 = some τm ∧ sF τ 406 = 0 ∧ ∃ rx, XL e M τ rx ∧ MF e M τm rx := by
  obtain ⟨fk, fB, fS, fL⟩ := FLx
  rcases fS with ⟨_, s2, _⟩ | ⟨ρ, FCx, hpl, hρ, LEx, ctx, LVx⟩
  · exact absurd (hs.symm.trans s2) (by decide)
  have hN := EV_N E
  obtain ⟨c1, c2, c3, c4, c5, c6, c7, c8, c9, c10, c11, c12, c13⟩ := FCx
  have H : MR0 e w xf c d rest f fl σ μ := ⟨H1, V, hf, fk, fB, ⟨c1, c2, c3, c4, c5, c6, c7, c8, c9, trivial, c11, c12, c13⟩, fL⟩
  obtain ⟨f0, fR, fb, cl, fp⟩ := MR0_f H
  clear fB fk
  obtain ⟨v1, v2, v3⟩ := LVx
  obtain ⟨gv1, gv2, gv3, gv4, gv5⟩ := gv
  have gvv : GV w σ μ gn := ⟨gv1, gv2, gv3, gv4, gv5⟩
  obtain ⟨tX', tM'⟩ := mg_tag gvv
  have lb := oN_bd hρ
  have hrx : ∀ x, x ∈ ρ → dc x < sI σ 349 f := fun x hx => by have := v1 x hx; lia
  have ov : sF σ 406 = 0 := V.2.2.2.2.1
  -- from the new state on
  have go : ∀ (τ τm : mS) (ρ' : List Int32) (m : Int32), MR0 e w xf c d rest f fl τ τm → TP w τ τm f (sF τm 154 - 1) ρ' m → m_fr (fun k => [354, 364, 365].contains k) σ τ → m_fr (fun k => [141, 142, 143, 153].contains k) μ τm → eS e (sI σ 344 f) (sI σ 346 f) (mff μ (sF μ 154 - 1) 2) ρ' m → sF τ 406 = 0 ∧ (∃ rx, XL e M τ rx ∧ MF e M τm rx) := fun τ τm ρ' m h1 h2 fx fm hS => by
    obtain ⟨rk, r1, r2⟩ := hS
    have e154 : sF τm 154 = sF μ 154 := mf_F fm rfl
    have e2 : mff τm (sF τm 154 - 1) 2 = mff μ (sF μ 154 - 1) 2 := by rw [e154]; exact mf_I fm rfl
    refine ⟨by rw [mf_F fx rfl]; exact ov, HG_F G (rk := rk) (ρ := ρ') (m := m) ⟨h1, h2⟩ r1 ?_ (by rw [mf_F fx rfl]; exact hF) (by rw [e154]; exact hn)⟩
    rw [mf_I (k := 344) fx rfl, mf_I (k := 346) fx rfl, e2]
    exact r2
  have up2 : ∀ {τ : mS}, m_fr (fun k => [364, 365].contains k) σ τ → m_fr (fun k => [354, 364, 365].contains k) σ τ := fun fr => mf_mono fr (fun k hk => by
    simp only [List.contains_cons, List.contains_nil, Bool.or_eq_false_iff, beq_eq_false_iff_ne] at hk ⊢
    (repeat' (first | exact trivial | omega | apply And.intro)))
  have upm : ∀ {τ : mS}, m_fr (fun k => [141, 142, 143].contains k) μ τ → m_fr (fun k => [141, 142, 143, 153].contains k) μ τ := fun fr => mf_mono fr (fun k hk => by
    simp only [List.contains_cons, List.contains_nil, Bool.or_eq_false_iff, beq_eq_false_iff_ne] at hk ⊢
    (repeat' (first | exact trivial | omega | apply And.intro)))
  -- several values
  have many : ∀ (rg n : Int32), okr ρ rg n (sI σ 261 (sI σ 344 f)) → n ≤ 2500 → ∃ τ τm, xx6_take_b59 (eN e) (eN e) f rg (sI σ 347 f + rg) n 0 σ = some τ ∧ mm_finish_244 (eN e) T (eN e) n 0 (md_pi μ 143 ct.2.2.2.1) = some τm ∧ MR0 e w xf c d rest f fl τ τm ∧ RG w τ f (sI τm 141) (sJ τm 142) (mff τm (sF τm 154 - 1) 3) ρ ∧ RG w τ f (sI τm 141) (sJ τm 142) (mff τm (sF τm 154 - 1) 3 + Int32.ofNat ρ.length) (rng rg n) ∧ m_fr (fun k => [354, 364, 365].contains k) σ τ ∧ m_fr (fun k => [141, 142, 143, 153].contains k) μ τm ∧ sF τm 143 = mff τm (sF τm 154 - 1) 3 + Int32.ofNat ρ.length + n ∧ sI τ 354 f = rg + n ∧ mff τm (sF τm 154 - 1) 9 = n := fun rg n ok n1 => by
    obtain ⟨o1, o2, o3, o4, o5, o6⟩ := ok
    obtain ⟨τ, a1, a2, a3, a4⟩ := take_lp (N := eN e) (σ := σ) (f := f) (rg := rg) (b := sI σ 347 f + rg) (n := n) f0.1 f0.2 (by lia) (by lia) (by lia) o3 n1 (by rw [gv1]; exact gv3) (by rw [gv1]; exact gv4) tX' (eN e) 0 (by decide) o3 (big_d hN) σ mf_rfl ⟨fun k k0 k1 => by exfalso; lia, fun i _ _ => ⟨rfl, rfl⟩⟩
    have q190 : sF (md_pi μ 143 ct.2.2.2.1) 190 = gn := by simp only [sF_pi, sF_pl, sF_ai, sF_al, sG_pi, sG_pl, sG_ai, sG_al, sI_pi, sI_pl, sI_al, sI_ai1, sI_ai2, sJ_pi, sJ_pl, sJ_ai, sJ_al1, sJ_al2, Nat.reduceEqDiff, if_true, if_false, ne_eq, not_false_eq_true, ite_true, ite_false]; exact gv2
    have q154 : sF (md_pi μ 143 ct.2.2.2.1) 154 = sF μ 154 := by simp only [sF_pi, sF_pl, sF_ai, sF_al, sG_pi, sG_pl, sG_ai, sG_al, sI_pi, sI_pl, sI_al, sI_ai1, sI_ai2, sJ_pi, sJ_pl, sJ_ai, sJ_al1, sJ_al2, Nat.reduceEqDiff, if_true, if_false, ne_eq, not_false_eq_true, ite_true, ite_false]
    have qg : mg (md_pi μ 143 ct.2.2.2.1) = mg μ := by funext k; simp only [mg, sF_pi, sF_pl, sF_ai, sF_al, sG_pi, sG_pl, sG_ai, sG_al, sI_pi, sI_pl, sI_al, sI_ai1, sI_ai2, sJ_pi, sJ_pl, sJ_ai, sJ_al1, sJ_al2, Nat.reduceEqDiff, if_true, if_false, ne_eq, not_false_eq_true, ite_true, ite_false]
    have qv : mgv (md_pi μ 143 ct.2.2.2.1) = mgv μ := by funext k; simp only [mgv, sF_pi, sF_pl, sF_ai, sF_al, sG_pi, sG_pl, sG_ai, sG_al, sI_pi, sI_pl, sI_al, sI_ai1, sI_ai2, sJ_pi, sJ_pl, sJ_ai, sJ_al1, sJ_al2, Nat.reduceEqDiff, if_true, if_false, ne_eq, not_false_eq_true, ite_true, ite_false]
    obtain ⟨τm, b1, b2, b3, b4, b5⟩ := fin_lp (N := eN e) (T := T) (μ := md_pi μ 143 ct.2.2.2.1) (b := ct.2.2.2.1) (n := n) (by rw [hpl]; lia) (by rw [hpl]; lia) (by rw [hpl]; lia) o3 n1 (by rw [q154]; exact cl.1) (by rw [q154]; lia) (by rw [q190]; exact gv3) (by rw [q190]; exact gv4) (by rw [qg]; exact tM') (eN e) 0 (by decide) o3 (big_d hN) (md_pi μ 143 ct.2.2.2.1) mf_rfl (by simp only [sF_pi, sF_pl, sF_ai, sF_al, sG_pi, sG_pl, sG_ai, sG_al, sI_pi, sI_pl, sI_al, sI_ai1, sI_ai2, sJ_pi, sJ_pl, sJ_ai, sJ_al1, sJ_al2, Nat.reduceEqDiff, if_true, if_false, ne_eq, not_false_eq_true, ite_true, ite_false]; lia) ⟨fun k k0 k1 => by exfalso; lia, fun i _ _ => ⟨rfl, rfl⟩⟩
    rw [qg, qv] at b4
    have fm : m_fr (fun k => [141, 142, 143, 153].contains k) μ τm := mf_tr (mf_pi mf_rfl rfl) b2
    have wm : wrM (mff μ (sF μ 154 - 1) 3 + Int32.ofNat ρ.length) n (mg μ) (mgv μ) μ τm := by
      rw [← hpl]
      refine ⟨b4.1, fun i i0 i1 => ?_⟩
      have := b4.2 i i0 i1
      simp only [sF_pi, sF_pl, sF_ai, sF_al, sG_pi, sG_pl, sG_ai, sG_al, sI_pi, sI_pl, sI_al, sI_ai1, sI_ai2, sJ_pi, sJ_pl, sJ_ai, sJ_al1, sJ_al2, Nat.reduceEqDiff, if_true, if_false, ne_eq, not_false_eq_true, ite_true, ite_false] at this
      exact this
    obtain ⟨l1, l2, l3⟩ := land_of H hρ c10 hrx ⟨o1, o2, o3, o4, o5, o6⟩ a2 (fun g g0 gf => by rw [a4 g g0, if_neg gf]) a3 fm (fun g g0 gf => by
      rw [b5 g g0]
      simp only [sF_pi, sF_pl, sF_ai, sF_al, sG_pi, sG_pl, sG_ai, sG_al, sI_pi, sI_pl, sI_al, sI_ai1, sI_ai2, sJ_pi, sJ_pl, sJ_ai, sJ_al1, sJ_al2, Nat.reduceEqDiff, if_true, if_false, ne_eq, not_false_eq_true, ite_true, ite_false]
      rw [if_neg gf]) wm (fun k k0 k1 => GV_at gvv k0)
    have e154 : sF τm 154 = sF μ 154 := mf_F fm rfl
    have e3 : ∀ k, mff τm k 3 = mff μ k 3 := fun k => mf_I fm rfl
    refine ⟨τ, τm, a1, b1, l1, l2, l3, a2, fm, by rw [b3, e154, e3, hpl], by rw [a4 f f0.1, if_pos rfl], ?_⟩
    rw [e154]
    show sI τm 153 (sF μ 154 - 1) = n
    rw [b5 _ (by lia)]
    simp only [sF_pi, sF_pl, sF_ai, sF_al, sG_pi, sG_pl, sG_ai, sG_al, sI_pi, sI_pl, sI_al, sI_ai1, sI_ai2, sJ_pi, sJ_pl, sJ_ai, sJ_al1, sJ_al2, Nat.reduceEqDiff, if_true, if_false, ne_eq, not_false_eq_true, ite_true, ite_false]
  rcases ctx with ⟨th, md, wn, w0, ok, hS⟩ | ⟨th, md, wt, wn, ok, hS⟩ | ⟨th, md, wn, ok, hS⟩ | ⟨th, md, wn, hS⟩ | ⟨th, md, ok, hS⟩ | ⟨th, md, ok, hS⟩
  · -- so many values
    obtain ⟨τ, τm, a1, b1, l1, l2, l3, fx, fm, t1, t2, t3⟩ := many ct.2.1 ct.2.2.1 ok ok.2.2.2.1
    have len : Int32.ofNat (ρ ++ rng ct.2.1 ct.2.2.1).length = Int32.ofNat ρ.length + ct.2.2.1 := by
      rw [List.length_append, rng_len, ← oN_add, oN_cl' w0]
    obtain ⟨x1, x2⟩ := go τ τm _ _ l1 (.inl ⟨rfl, RG_app.mpr ⟨l2, l3⟩, by rw [t1, len]; lia⟩) fx fm hS
    refine ⟨τ, τm, ?_, ?_, x1, x2⟩
    · rw [md]
      simp (disch := lia) only [xx6_take, xx6_take_b54, lt, gd_in, if_pos, if_neg, ↓reduceIte, gd_z0, gd_z1, gd_tt, sF_fold, sG_fold, sI_fold, sJ_fold]
      exact a1
    · rw [th, wn]
      simp (disch := lia) only [mb_finish, mm_finish_239, lt, gd_in, if_pos, if_neg, ↓reduceIte, gd_z0, gd_z1, gd_tt, sF_fold, sG_fold, sI_fold, sJ_fold]
      exact b1
  · -- all values
    have ok2 : okr ρ ct.2.1 gn (sI σ 261 (sI σ 344 f)) := by
      obtain ⟨o1, o2, o3, o4, o5, o6⟩ := ok
      exact ⟨o1, o2, gv3, by lia, by lia, fun x hx => by have := o6 x hx; lia⟩
    obtain ⟨τ, τm, a1, b1, l1, l2, l3, fx, fm, t1, t2, t3⟩ := many ct.2.1 gn ok2 (by lia)
    obtain ⟨x1, x2⟩ := go τ τm _ _ l1 (.inr (.inr ⟨ok.1, gn, gv3, g1, l2, l3, t1, t2, t3⟩)) fx fm hS
    refine ⟨τ, τm, ?_, ?_, x1, x2⟩
    · rw [md, wt]
      simp (disch := lia) only [xx6_take, xx6_take_b54, lt, gd_in, if_pos, if_neg, ↓reduceIte, gd_z0, gd_z1, gd_tt, sF_fold, sG_fold, sI_fold, sJ_fold, gv1]
      exact a1
    · rw [th, wn]
      simp (disch := lia) only [mb_finish, mm_finish_239, lt, gd_in, if_pos, if_neg, ↓reduceIte, gd_z0, gd_z1, gd_tt, sF_fold, sG_fold, sI_fold, sJ_fold, sF_pi, sF_pl, sF_ai, sF_al, sG_pi, sG_pl, sG_ai, sG_al, sI_pi, sI_pl, sI_al, sI_ai1, sI_ai2, sJ_pi, sJ_pl, sJ_ai, sJ_al1, sJ_al2, Nat.reduceEqDiff, if_true, if_false, ne_eq, not_false_eq_true, ite_true, ite_false, gv2]
      exact b1
  · -- one value
    obtain ⟨τ, a1, a2, a3⟩ := take1_x (N := eN e) (σ := σ) (f := f) (rg := ct.2.1) (md := 1) (.inl rfl) f0.1 f0.2 (i_reg1 fb.1 fb.2.1 ok.1 ok.2.1 ok.2.2.2.2.1 fR.2.2 fb.2.2.1 fb.2.2.2).1 (i_reg1 fb.1 fb.2.1 ok.1 ok.2.1 ok.2.2.2.2.1 fR.2.2 fb.2.2.1 fb.2.2.2).2 (by rw [gv1]; exact gv3) tX' ct.2.2.1
    obtain ⟨_, τm, _, b1, _, _, _, _, fm, t1, _, t3⟩ := many ct.2.1 1 ok (by decide)
    have q190 : sF (md_pi μ 143 ct.2.2.2.1) 190 = gn := by simp only [sF_pi, sF_pl, sF_ai, sF_al, sG_pi, sG_pl, sG_ai, sG_al, sI_pi, sI_pl, sI_al, sI_ai1, sI_ai2, sJ_pi, sJ_pl, sJ_ai, sJ_al1, sJ_al2, Nat.reduceEqDiff, if_true, if_false, ne_eq, not_false_eq_true, ite_true, ite_false]; exact gv2
    have q154 : sF (md_pi μ 143 ct.2.2.2.1) 154 = sF μ 154 := by simp only [sF_pi, sF_pl, sF_ai, sF_al, sG_pi, sG_pl, sG_ai, sG_al, sI_pi, sI_pl, sI_al, sI_ai1, sI_ai2, sJ_pi, sJ_pl, sJ_ai, sJ_al1, sJ_al2, Nat.reduceEqDiff, if_true, if_false, ne_eq, not_false_eq_true, ite_true, ite_false]
    have qg : mg (md_pi μ 143 ct.2.2.2.1) = mg μ := by funext k; simp only [mg, sF_pi, sF_pl, sF_ai, sF_al, sG_pi, sG_pl, sG_ai, sG_al, sI_pi, sI_pl, sI_al, sI_ai1, sI_ai2, sJ_pi, sJ_pl, sJ_ai, sJ_al1, sJ_al2, Nat.reduceEqDiff, if_true, if_false, ne_eq, not_false_eq_true, ite_true, ite_false]
    have qv : mgv (md_pi μ 143 ct.2.2.2.1) = mgv μ := by funext k; simp only [mgv, sF_pi, sF_pl, sF_ai, sF_al, sG_pi, sG_pl, sG_ai, sG_al, sI_pi, sI_pl, sI_al, sI_ai1, sI_ai2, sJ_pi, sJ_pl, sJ_ai, sJ_al1, sJ_al2, Nat.reduceEqDiff, if_true, if_false, ne_eq, not_false_eq_true, ite_true, ite_false]
    obtain ⟨τm', b1', b2, b3, b4, b5⟩ := fin_lp (N := eN e) (T := T) (μ := md_pi μ 143 ct.2.2.2.1) (b := ct.2.2.2.1) (n := 1) (by rw [hpl]; lia) (by rw [hpl]; lia) (by rw [hpl]; lia) (by decide) (by decide) (by rw [q154]; exact cl.1) (by rw [q154]; lia) (by rw [q190]; exact gv3) (by rw [q190]; exact gv4) (by rw [qg]; exact tM') (eN e) 0 (by decide) (by decide) (big_d hN) (md_pi μ 143 ct.2.2.2.1) mf_rfl (by simp only [sF_pi, sF_pl, sF_ai, sF_al, sG_pi, sG_pl, sG_ai, sG_al, sI_pi, sI_pl, sI_al, sI_ai1, sI_ai2, sJ_pi, sJ_pl, sJ_ai, sJ_al1, sJ_al2, Nat.reduceEqDiff, if_true, if_false, ne_eq, not_false_eq_true, ite_true, ite_false]; lia) ⟨fun k k0 k1 => by exfalso; lia, fun i _ _ => ⟨rfl, rfl⟩⟩
    have : τm = τm' := Option.some.inj (b1.symm.trans b1')
    subst this
    rw [qg, qv] at b4
    have wm : wrM (mff μ (sF μ 154 - 1) 3 + Int32.ofNat ρ.length) 1 (fun _ => mg μ 0) (fun _ => mgv μ 0) μ τm := by
      rw [← hpl]
      refine ⟨fun k k0 k1 => ?_, fun i i0 i1 => ?_⟩
      · have : k = 0 := by lia
        subst this
        exact b4.1 0 (by decide) (by decide)
      · have := b4.2 i i0 i1
        simp only [sF_pi, sF_pl, sF_ai, sF_al, sG_pi, sG_pl, sG_ai, sG_al, sI_pi, sI_pl, sI_al, sI_ai1, sI_ai2, sJ_pi, sJ_pl, sJ_ai, sJ_al1, sJ_al2, Nat.reduceEqDiff, if_true, if_false, ne_eq, not_false_eq_true, ite_true, ite_false] at this
        exact this
    rw [if_pos rfl, if_pos rfl] at a3
    obtain ⟨l1, l2, l3⟩ := land_of H hρ c10 hrx ok (up2 a2) (fun g g0 gf => mf_I a2 rfl) a3 fm (fun g g0 gf => by
      rw [b5 g g0]
      simp only [sF_pi, sF_pl, sF_ai, sF_al, sG_pi, sG_pl, sG_ai, sG_al, sI_pi, sI_pl, sI_al, sI_ai1, sI_ai2, sJ_pi, sJ_pl, sJ_ai, sJ_al1, sJ_al2, Nat.reduceEqDiff, if_true, if_false, ne_eq, not_false_eq_true, ite_true, ite_false]
      rw [if_neg gf]) wm (fun k k0 k1 => GV_at gvv (by decide))
    have len : Int32.ofNat (ρ ++ [ct.2.1]).length = Int32.ofNat ρ.length + 1 := by rw [List.length_append, ← oN_add]; rfl
    rw [rng_1] at l3
    obtain ⟨x1, x2⟩ := go τ τm _ _ l1 (.inl ⟨rfl, RG_app.mpr ⟨l2, l3⟩, by rw [t1, len]; lia⟩) (up2 a2) fm hS
    refine ⟨τ, τm, by rw [md]; exact a1, ?_, x1, x2⟩
    rw [th, wn]
    simp (disch := lia) only [mb_finish, mm_finish_239, lt, gd_in, if_pos, if_neg, ↓reduceIte, gd_z0, gd_z1, gd_tt, sF_fold, sG_fold, sI_fold, sJ_fold]
    exact b1
  · -- nothing
    have q190 : sF (md_pi μ 143 ct.2.2.2.1) 190 = gn := by simp only [sF_pi, sF_pl, sF_ai, sF_al, sG_pi, sG_pl, sG_ai, sG_al, sI_pi, sI_pl, sI_al, sI_ai1, sI_ai2, sJ_pi, sJ_pl, sJ_ai, sJ_al1, sJ_al2, Nat.reduceEqDiff, if_true, if_false, ne_eq, not_false_eq_true, ite_true, ite_false]; exact gv2
    have q154 : sF (md_pi μ 143 ct.2.2.2.1) 154 = sF μ 154 := by simp only [sF_pi, sF_pl, sF_ai, sF_al, sG_pi, sG_pl, sG_ai, sG_al, sI_pi, sI_pl, sI_al, sI_ai1, sI_ai2, sJ_pi, sJ_pl, sJ_ai, sJ_al1, sJ_al2, Nat.reduceEqDiff, if_true, if_false, ne_eq, not_false_eq_true, ite_true, ite_false]
    have qg : mg (md_pi μ 143 ct.2.2.2.1) = mg μ := by funext k; simp only [mg, sF_pi, sF_pl, sF_ai, sF_al, sG_pi, sG_pl, sG_ai, sG_al, sI_pi, sI_pl, sI_al, sI_ai1, sI_ai2, sJ_pi, sJ_pl, sJ_ai, sJ_al1, sJ_al2, Nat.reduceEqDiff, if_true, if_false, ne_eq, not_false_eq_true, ite_true, ite_false]
    obtain ⟨τm, b1, b2, b3, b4, b5⟩ := fin_lp (N := eN e) (T := T) (μ := md_pi μ 143 ct.2.2.2.1) (b := ct.2.2.2.1) (n := 0) (by rw [hpl]; lia) (by rw [hpl]; lia) (by rw [hpl]; lia) (by decide) (by decide) (by rw [q154]; exact cl.1) (by rw [q154]; lia) (by rw [q190]; exact gv3) (by rw [q190]; exact gv4) (by rw [qg]; exact tM') (eN e) 0 (by decide) (by decide) (big_d hN) (md_pi μ 143 ct.2.2.2.1) mf_rfl (by simp only [sF_pi, sF_pl, sF_ai, sF_al, sG_pi, sG_pl, sG_ai, sG_al, sI_pi, sI_pl, sI_al, sI_ai1, sI_ai2, sJ_pi, sJ_pl, sJ_ai, sJ_al1, sJ_al2, Nat.reduceEqDiff, if_true, if_false, ne_eq, not_false_eq_true, ite_true, ite_false]; lia) ⟨fun k k0 k1 => by exfalso; lia, fun i _ _ => ⟨rfl, rfl⟩⟩
    have fm : m_fr (fun k => [141, 142, 143, 153].contains k) μ τm := mf_tr (mf_pi mf_rfl rfl) b2
    have wm : wrM (mff μ (sF μ 154 - 1) 3 + Int32.ofNat ρ.length) 0 (fun _ => 0) (fun _ => 0) μ τm := by
      rw [← hpl]
      refine ⟨fun k k0 k1 => by exfalso; lia, fun i i0 i1 => ?_⟩
      have := b4.2 i i0 i1
      simp only [sF_pi, sF_pl, sF_ai, sF_al, sG_pi, sG_pl, sG_ai, sG_al, sI_pi, sI_pl, sI_al, sI_ai1, sI_ai2, sJ_pi, sJ_pl, sJ_ai, sJ_al1, sJ_al2, Nat.reduceEqDiff, if_true, if_false, ne_eq, not_false_eq_true, ite_true, ite_false] at this
      exact this
    obtain ⟨l1, l2, l3⟩ := land_of (rg := 0) (n := 0) (gt := fun _ => 0) (gv := fun _ => 0) H hρ c10 hrx ⟨by decide, by decide, by decide, by decide, by have := fR.1; lia, fun x hx => by lia⟩ (mf_rfl (σ := σ)) (fun g g0 gf => rfl) ⟨fun k k0 k1 => by exfalso; lia, fun i _ _ => ⟨rfl, rfl⟩⟩ fm (fun g g0 gf => by
      rw [b5 g g0]
      simp only [sF_pi, sF_pl, sF_ai, sF_al, sG_pi, sG_pl, sG_ai, sG_al, sI_pi, sI_pl, sI_al, sI_ai1, sI_ai2, sJ_pi, sJ_pl, sJ_ai, sJ_al1, sJ_al2, Nat.reduceEqDiff, if_true, if_false, ne_eq, not_false_eq_true, ite_true, ite_false]
      rw [if_neg gf]) wm (fun k k0 k1 => by exfalso; lia)
    have e154 : sF τm 154 = sF μ 154 := mf_F fm rfl
    have e3 : ∀ k, mff τm k 3 = mff μ k 3 := fun k => mf_I fm rfl
    obtain ⟨x1, x2⟩ := go σ τm _ _ l1 (.inl ⟨rfl, l2, by rw [b3, e154, e3, hpl]; lia⟩) mf_rfl fm hS
    refine ⟨σ, τm, ?_, ?_, x1, x2⟩
    · rw [md]
      simp (disch := lia) only [xx6_take, xx6_take_b260, lt, gd_in, if_pos, if_neg, ↓reduceIte, gd_z0, gd_z1, gd_tt, sF_fold, sG_fold, sI_fold, sJ_fold]
    · rw [th, wn]
      simp (disch := lia) only [mb_finish, mm_finish_239, lt, gd_in, if_pos, if_neg, ↓reduceIte, gd_z0, gd_z1, gd_tt, sF_fold, sG_fold, sI_fold, sJ_fold]
      exact b1
  · -- whether it is true
    obtain ⟨τ, a1, a2, a3⟩ := take1_x (N := eN e) (σ := σ) (f := f) (rg := ct.2.1) (md := 2) (.inr rfl) f0.1 f0.2 (i_reg1 fb.1 fb.2.1 ok.1 ok.2.1 ok.2.2.2.2.1 fR.2.2 fb.2.2.1 fb.2.2.2).1 (i_reg1 fb.1 fb.2.1 ok.1 ok.2.1 ok.2.2.2.2.1 fR.2.2 fb.2.2.1 fb.2.2.2).2 (by rw [gv1]; exact gv3) tX' ct.2.2.1
    obtain ⟨τm, b1, b2, b3, b4⟩ := fin1_m (N := eN e) (T := T) (μ := μ) (to := ct.2.2.2.1) (th := 1) (.inl rfl) (by rw [hpl]; lia) (by rw [hpl]; lia) (by rw [gv2]; exact gv3) (by rw [gv2]; exact g1) ct.2.2.2.2.1
    have tt := VV_true (GV_at gvv (k := 0) (by decide))
    simp only [if_neg (show ¬ (2 : Int32) = 1 by decide)] at a3
    rw [hpl] at b4
    obtain ⟨l1, l2, l3⟩ := land_of H hρ c10 hrx ok (up2 a2) (fun g g0 gf => mf_I a2 rfl) a3 (upm b2) (fun g g0 gf => mf_I b2 rfl) b4 (fun k k0 k1 => by
      by_cases z : mg μ 0 = 0 ∨ (mg μ 0 = 1 ∧ mgv μ 0 = 0)
      · rw [if_neg (fun q => tt.mp q z), if_neg (fun q => absurd (q.mp z) (by decide))]
        exact .inr (.inl ⟨rfl, rfl, rfl, rfl⟩)
      · rw [if_pos (tt.mpr z), if_pos ⟨fun q => absurd q z, fun q => absurd q (by decide)⟩]
        exact .inr (.inr (.inl ⟨rfl, rfl, rfl, rfl⟩)))
    have e154 : sF τm 154 = sF μ 154 := mf_F b2 rfl
    have e3 : ∀ k, mff τm k 3 = mff μ k 3 := fun k => mf_I b2 rfl
    have len : Int32.ofNat (ρ ++ [ct.2.1]).length = Int32.ofNat ρ.length + 1 := by rw [List.length_append, ← oN_add]; rfl
    rw [rng_1] at l3
    obtain ⟨x1, x2⟩ := go τ τm _ _ l1 (.inl ⟨rfl, RG_app.mpr ⟨l2, l3⟩, by rw [b3, e154, e3, len, hpl]; lia⟩) (up2 a2) (upm b2) hS
    exact ⟨τ, τm, by rw [md]; exact a1, by rw [th]; exact b1, x1, x2⟩
  · -- whether it is not true
    obtain ⟨τ, a1, a2, a3⟩ := take1_x (N := eN e) (σ := σ) (f := f) (rg := ct.2.1) (md := 2) (.inr rfl) f0.1 f0.2 (i_reg1 fb.1 fb.2.1 ok.1 ok.2.1 ok.2.2.2.2.1 fR.2.2 fb.2.2.1 fb.2.2.2).1 (i_reg1 fb.1 fb.2.1 ok.1 ok.2.1 ok.2.2.2.2.1 fR.2.2 fb.2.2.1 fb.2.2.2).2 (by rw [gv1]; exact gv3) tX' ct.2.2.1
    obtain ⟨τm, b1, b2, b3, b4⟩ := fin1_m (N := eN e) (T := T) (μ := μ) (to := ct.2.2.2.1) (th := 2) (.inr rfl) (by rw [hpl]; lia) (by rw [hpl]; lia) (by rw [gv2]; exact gv3) (by rw [gv2]; exact g1) ct.2.2.2.2.1
    have tt := VV_true (GV_at gvv (k := 0) (by decide))
    simp only [if_neg (show ¬ (2 : Int32) = 1 by decide)] at a3
    rw [hpl] at b4
    -- the register alone
    have wx0 : wrX (sI σ 347 f + ct.2.1) 1 (fun _ => sI τ 364 (sI σ 347 f + ct.2.1)) (fun _ => sJ τ 365 (sI σ 347 f + ct.2.1)) σ τ := ⟨fun k k0 k1 => by
      have : k = 0 := by lia
      subst this
      have e : sI σ 347 f + ct.2.1 + 0 = sI σ 347 f + ct.2.1 := by lia
      rw [e]
      exact ⟨rfl, rfl⟩, a3.2⟩
    have rv := a3.1 0 (by decide) (by decide)
    have pv := b4.1 0 (by decide) (by decide)
    have ee : sI σ 347 f + ct.2.1 + 0 = sI σ 347 f + ct.2.1 := by lia
    have ee2 : mff μ (sF μ 154 - 1) 3 + Int32.ofNat ρ.length + 0 = mff μ (sF μ 154 - 1) 3 + Int32.ofNat ρ.length := by lia
    rw [ee] at rv
    rw [ee2] at pv
    have okz : okr ρ ct.2.1 1 (sI σ 261 (sI σ 344 f)) := ok
    obtain ⟨o1, o2, o3, o4, o5, o6⟩ := ok
    have X : xtc f (sI σ 261 (sI σ 344 f)) σ τ := by
      refine ⟨tk_xT (up2 a2), fun k hk g g0 gf => ?_, fun i i0 i1 => a3.2 i i0 (i_reg fb.1 fb.2.1 o1 o2 o3 o4 o5 (by have := fR.2.1; lia) i1)⟩
      rcases hk with rfl | rfl | rfl | rfl <;> exact mf_I a2 rfl
    have Y : mtc (sF μ 154 - 1) (mff μ (sF μ 154 - 1) 3) μ τm := by
      refine ⟨tk_nT (upm b2), fun k hk g g0 gf => ?_, fun i i0 i1 => b4.2 i i0 (by lia)⟩
      rcases hk with rfl | rfl | rfl <;> exact mf_I b2 rfl
    have l1 := MR0_tc H X Y
    have e154 : sF τm 154 = sF μ 154 := mf_F b2 rfl
    have e3 : ∀ k, mff τm k 3 = mff μ k 3 := fun k => mf_I b2 rfl
    have e347 : sI τ 347 f = sI σ 347 f := mf_I a2 rfl
    have l2 : RG w τ f (sI τm 141) (sJ τm 142) (mff τm (sF τm 154 - 1) 3) ρ := by
      rw [e154, e3]
      refine RG_cg c10 wle_rfl (fun x hx x0 => ?_) (fun j hj => ?_)
      · have q := o6 x hx
        have q2 := hrx x hx
        simp only [xt, xv]
        rw [e347]
        exact a3.2 _ (by lia) (by lia)
      · have lj := oN_lt2 hj hρ
        exact b4.2 _ (by lia) (by lia)
    have len : Int32.ofNat (ρ ++ [ct.2.1]).length = Int32.ofNat ρ.length + 1 := by rw [List.length_append, ← oN_add]; rfl
    have tp : sF τm 143 - 1 = mff μ (sF μ 154 - 1) 3 + Int32.ofNat ρ.length := by rw [b3, hpl]; lia
    have z1 : xv τ f ct.2.1 = 0 := by simp only [xv]; rw [e347]; exact rv.2
    have z2 : sI τm 141 (sF τm 143 - 1) = 1 := by rw [tp]; exact pv.1
    have z3 : (xt τ f ct.2.1 = 2 ∧ sJ τm 142 (sF τm 143 - 1) = 0) ∨ (xt τ f ct.2.1 = 1 ∧ sJ τm 142 (sF τm 143 - 1) = 1) := by
      simp only [xt]
      rw [e347, tp, rv.1, pv.2]
      by_cases z : mg μ 0 = 0 ∨ (mg μ 0 = 1 ∧ mgv μ 0 = 0)
      · rw [if_neg (fun q => tt.mp q z), if_pos ⟨fun _ => rfl, fun _ => z⟩]
        exact .inr ⟨rfl, rfl⟩
      · rw [if_pos (tt.mpr z), if_neg (fun q => z (q.mpr rfl))]
        exact .inl ⟨rfl, rfl⟩
    obtain ⟨x1, x2⟩ := go τ τm _ _ l1 (.inr (.inl ⟨rfl, ρ, ct.2.1, rfl, o1, l2, by rw [b3, e154, e3, len, hpl]; lia, z1, z2, z3⟩)) (up2 a2) (upm b2) hS
    exact ⟨τ, τm, by rw [md]; exact a1, by rw [th]; exact b1, x1, x2⟩
