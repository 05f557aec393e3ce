/-! LAYER 2: step rules: CALL -/
theorem mf_sym {P : Nat → Bool} {σ τ : mS} (h : m_fr P σ τ) : m_fr P τ σ := ⟨fun k hk => (h.1 k hk).symm, fun k hk => (h.2.1 k hk).symm, fun k hk => (h.2.2.1 k hk).symm, fun k hk => (h.2.2.2 k hk).symm⟩
theorem pi_y {μ : mS} {k0 B P : Int32} : mtc k0 B (md_pi μ 143 P) μ := ⟨mf_sym (mf_pi mf_rfl rfl), fun k hk i _ _ => by rcases hk with rfl | rfl | rfl <;> rfl, fun i _ _ => ⟨rfl, rfl⟩⟩
theorem ga_1 {r nn i : Int32} (r0 : 0 ≤ r) (r1 : r ≤ 3000) (n0 : 0 ≤ nn) (n1 : nn ≤ 145) (i0 : 0 ≤ i) (i1 : i ≤ nn) : (r + nn ≤ r + i ↔ nn ≤ i) ∧ r + i + 1 = r + (i + 1) := ⟨⟨fun h => by lia, fun h => by lia⟩, by lia⟩
theorem ga_lt {k i nn : Int32} (k0 : 0 ≤ k) (k1 : k < i + 1) (ne : ¬ k = i) (i0 : 0 ≤ i) (i1 : i < nn) (n1 : nn ≤ 145) : k < i := by lia
theorem ga_nn {r k nn : Int32} (r0 : 0 ≤ r) (r1 : r ≤ 3000) (k0 : 0 ≤ k) (k1 : k < nn) (n1 : nn ≤ 145) : 0 ≤ r + k := by lia
/-- arguments are gathered -/
theorem gath_lp {N : Nat} {σ : mS} {f b r nn : Int32} (e410 : sF σ 410 = b) (e347 : sI σ 347 f = b) (hb : ∀ k, 0 ≤ k → k < nn → (0 ≤ b + (r + k) ∧ b + (r + k) < 560000) ∧ 0 ≤ xt σ f (r + k) ∧ xt σ f (r + k) ≤ 8) (n0 : 0 ≤ nn) (n1 : nn ≤ 145) (r0 : 0 ≤ r) (r1 : r ≤ 3000) (j : Nat) (i : Int32) (i0 : 0 ≤ i) (i1 : i ≤ nn) (hj : (nn.toInt - i.toInt).toNat < j) : ∀ τ, m_fr (fun k => [397, 398, 399].contains k) σ τ → sF τ 399 = i → (∀ k, 0 ≤ k → k < i → sI τ 397 k = xt σ f (r + k) ∧ sJ τ 398 k = xv σ f (r + k)) → ∃ υ, xx6_gather_b35 N j (r + nn) (r + i) τ = some υ ∧ m_fr (fun k => [397, 398, 399].contains k) σ υ ∧ sF υ 399 = nn ∧ ∀ k, 0 ≤ k → k < nn → sI υ 397 k = xt σ f (r + k) ∧ sJ υ 398 k = xv σ f (r + k) := by
  induction j generalizing i with
  | zero => omega
  | succ j ih =>
    intro τ fr h399 hv
    have G1 := ga_1 r0 r1 n0 n1 i0 i1
    rw [xx6_gather_b35]
    by_cases ci : nn ≤ i
    · have ei : i = nn := Int32.le_antisymm i1 ci
      subst ei
      rw [if_pos (Int32.le_refl _)]
      exact ⟨τ, rfl, fr, h399, hv⟩
    · have ilt : i < nn := Int32.not_le.mp ci
      have nn' := i_nn i0 ilt (Int32.le_trans n1 (by decide))
      obtain ⟨I, t8⟩ := hb i i0 ilt
      have e410' : τ.1 410 = b := (mf_F fr (k := 410) rfl).trans e410
      have q1 : τ.2.2.1 364 (b + (r + i)).toNatClampNeg = xt σ f (r + i) := by
        simp only [xt]; rw [e347]; exact mf_I fr (k := 364) rfl
      have q2 : τ.2.2.2 365 (b + (r + i)).toNatClampNeg = xv σ f (r + i) := by
        simp only [xv]; rw [e347]; exact mf_J fr (k := 365) rfl
      have i160 : i < 160 := Int32.lt_of_lt_of_le ilt (Int32.le_trans n1 (by decide))
      have g1 := arg_x (N := N) (σ := τ) (k := i) (v := xv σ f (r + i)) h399 i0 i160 t8.1 t8.2
      rw [if_neg (fun h => ci (G1.1.mp h)), xx6_tag, e410', gd_in (by decide) I.1 I.2, q1, bd_so, xx6_value, e410', gd_in (by decide) I.1 I.2, q2, bd_so, g1, bd_so, lt, G1.2]
      have il := tI_lt.mp ilt
      refine ih (i + 1) nn'.1 nn'.2.1 (by omega) _ (mf_tr fr aW_fr) aW_399 (fun k k0 k1 => ?_)
      rw [aW_I i0 k0, aW_J i0 k0]
      by_cases ck : k = i
      · rw [if_pos ck, if_pos ck, ck]; exact ⟨rfl, rfl⟩
      · rw [if_neg ck, if_neg ck]
        exact hv k k0 (ga_lt k0 k1 ck i0 ilt n1)
/-- a call begins: the arguments, what is held, the callee -/
theorem call_S {e : EV} {w : WD} {xf : Int32 → List Int32} {c d : Int32} {rest : PL2} {f : Int32} {fl : List Int32} {g p q F n : Int32} {σ μ : mS} {ρ0 : List Int32} {M rk : Nat} {P nn r md rg wt wn th live tx : Int32} {vx : Int64} (C : CXT e M F n rk) (S : ST e w xf c d rest f fl ρ0 (-1) g p q F n σ (md_pi μ 143 P)) (zl : ρ0.length ≤ 2000) (hP : P = mff μ (n - 1) 3 + Int32.ofNat ρ0.length) (L : LE σ (mff μ) f (n - 1)) (V : LVd σ f ρ0 live) (n0 : 0 ≤ nn) (n1 : nn ≤ 145) (r0 : 0 ≤ r) (r1 : r ≤ 3000) (hR : ∀ k, 0 ≤ k → k < nn → r + k < sI σ 349 f) (top : sF μ 143 = P + nn + 1) (v : VV w tx vx (sI μ 141 P) (sJ μ 142 P)) (va : ∀ k, 0 ≤ k → k < nn → VV w (xt σ f (r + k)) (xv σ f (r + k)) (sI μ 141 (P + 1 + k)) (sJ μ 142 (P + 1 + k))) (ct : ctS (eS e) (sI (eσ e) 261 g) g p q ρ0 md rg wt wn th) : ∃ υ, xx6_gather_b35 (eN e) (eN e) (r + nn) r (md_pi σ 399 0) = some υ ∧ m_fr (fun k => [397, 398, 399].contains k) σ υ ∧ G2 e 1000 (M + 1) (xx6_begin (eN e) (md_ai υ 353 f.toNatClampNeg live) tx vx md rg wt) (mm_call (eN e) μ P nn wn th) := by
  have b := MR0_f S.1.1.1
  rw [PT_R S.1] at b
  have f01 := (PT_N S.1).1
  have n16 : nn.toInt ≤ 145 := tI_le.mp n1
  have fr0 : m_fr (fun k => [397, 398, 399].contains k) σ (md_pi σ 399 0) := mf_pi mf_rfl rfl
  have BN := C.1.1
  obtain ⟨υ, u1, fr, u3, u4⟩ := gath_lp (N := eN e) (r := r) S.2.1 rfl (fun k k0 k1 => ⟨rg_i2 b.2.2.1.1 b.2.2.1.2.2.1 b.2.2.1.2.1 b.2.2.1.2.2.2 (ga_nn r0 r1 k0 k1 n1) (hR k k0 k1), (VV_t8 (va k k0 k1)).1⟩) n0 n1 r0 r1 (eN e) 0 (by decide) n0 (by rw [show (0 : Int32).toInt = 0 from rfl]; omega) _ fr0 (by simp only [sF_pi, sF_pl, sF_ai, sF_al, sG_pi, sG_pl, sG_ai, sG_al, sI_pi, sI_pl, sI_al, sI_ai1, sI_ai2, sJ_pi, sJ_pl, sJ_ai, sJ_al1, sJ_al2, Nat.reduceEqDiff, if_true, if_false, ne_eq, not_false_eq_true, ite_true, ite_false]) (fun k k0 k1 => absurd (Int32.lt_of_le_of_lt k0 k1) Int32.lt_irrefl)
  rw [show r + 0 = r from by lia] at u1
  have fr2 : m_fr (fun k => [353, 397, 398, 399].contains k) σ (md_ai υ 353 f.toNatClampNeg live) := mf_ai (mf_mono fr (fun k hk => by
    simp only [List.contains_cons, List.contains_nil, Bool.or_eq_false_iff, beq_eq_false_iff_ne] at hk ⊢
    (repeat' (first | exact trivial | omega | apply And.intro)))) rfl
  have x : xtc f (sI (eσ e) 261 g) σ (md_ai υ 353 f.toNatClampNeg live) := by
    refine ⟨mf_mono fr2 (fun k hk => ?_), fun k hk h h0 hf => ?_, fun i _ _ => ⟨mf_I fr2 rfl, mf_J fr2 rfl⟩⟩
    · simp only [xT, inR, List.contains_cons, List.contains_nil, Bool.or_eq_false_iff, beq_eq_false_iff_ne, Bool.and_eq_false_iff, decide_eq_false_iff_not] at hk ⊢
      (repeat' (first | exact trivial | omega | apply And.intro))
    · rcases hk with rfl | rfl | rfl | rfl
      · exact mf_I fr2 rfl
      · exact mf_I fr2 rfl
      · rw [sI_aj f01.1 h0, if_neg hf]; exact mf_I fr rfl
      · exact mf_I fr2 rfl
  have e353 : sI (md_ai υ 353 f.toNatClampNeg live) 353 f = live := by rw [sI_aj f01.1 f01.1, if_pos rfl]
  have e349 : sI (md_ai υ 353 f.toNatClampNeg live) 349 f = sI σ 349 f := mf_I fr2 rfl
  have ext : ∀ s, xt (md_ai υ 353 f.toNatClampNeg live) f s = xt σ f s := fun s => by
    simp only [xt]
    rw [mf_I fr2 (k := 347) rfl]
    exact mf_I fr2 rfl
  have exv : ∀ s, xv (md_ai υ 353 f.toNatClampNeg live) f s = xv σ f s := fun s => by
    simp only [xv]
    rw [mf_I fr2 (k := 347) rfl]
    exact mf_J fr2 rfl
  have LV' : LV (md_ai υ 353 f.toNatClampNeg live) f ρ0 := ⟨fun x hx => by rw [e353]; exact V.1 x hx, by rw [e353, e349]; exact V.2.1, fun s s0 s1 => by
    rw [e353] at s1
    rw [ext]
    exact V.2.2 s s0 s1⟩
  have L' : LE (md_ai υ 353 f.toNatClampNeg live) (mff μ) f (n - 1) := by
    simp only [LE] at L ⊢
    rw [mf_I fr2 (k := 345) rfl, mf_I fr2 (k := 257) rfl]
    exact L
  have hq := S.1.2.2.2.1
  have h154 : sF (md_pi μ 143 P) 154 = n := S.1.2.2.2.2.2
  rw [h154] at hq
  have AR2 : AR w (md_ai υ 353 f.toNatClampNeg live) μ P nn := by
    refine ⟨u3, n0, n1, top, fun k k0 k1 => ?_⟩
    have a := u4 k k0 k1
    have v' := va k k0 k1
    rw [← a.1, ← a.2] at v'
    exact v'
  exact ⟨υ, u1, fr, begin_S C S.1 zl hP x pi_y ((mf_I fr2 rfl).trans S.1.2.2.1) hq (fun x _ _ => ⟨ext _, exv _⟩) L' LV' AR2 v ct⟩
