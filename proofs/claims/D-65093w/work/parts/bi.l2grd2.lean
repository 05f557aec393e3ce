/-! LAYER 2: pcall on both sides -/
theorem gd_1 {p n : Int32} (n0 : 1 ≤ n) (n1 : n ≤ 100) (p0 : 0 ≤ p) (p1 : p ≤ 475000) : (0 ≤ n - 1 ∧ n - 1 ≤ 145) ∧ p + n + 1 = p + 1 + (n - 1) + 1 ∧ (∀ k, k < n - 1 → k + 1 < n) ∧ (0 < n) := ⟨⟨by lia, by lia⟩, by lia, fun k hk => by lia, by lia⟩
theorem gd_2 {p k n : Int32} (k0 : 0 ≤ k) (h : k < n - 1) (n1 : n ≤ 100) : 0 ≤ k + 1 ∧ p + 1 + (k + 1) = p + 1 + 1 + k := ⟨by lia, by lia⟩
theorem gd_3 {a : Int32} {m : Nat} (h : a < 200) (h0 : 0 ≤ a) (hm : 200 - a.toInt ≤ (m : Nat) + 1) : 200 - (a + 1).toInt ≤ (m : Nat) := by
  have := tI_inc (a := a) h0 (Int32.lt_trans h (by decide))
  rw [this]; omega
theorem gd_4 {a : Int32} (h : a ≤ 200) : a + 1 - 1 ≤ 200 := by
  have : a + 1 - 1 = a := by lia
  rw [this]; exact h
/-- pcall: what is called runs above a guard -/
theorem guard_2 {e : EV} (E : EVok e) {M : Nat} {F : Int32} {m : Nat} (BG : BGst e M F 200 m) {w : WD} {xf : Int32 → List Int32} {c d n : Int32} {rest : PL2} {ct : CT} {σ μ : mS} (H : CL e w xf c d rest ct σ μ) (A : AR w σ μ ct.2.2.2.1 n) (n0 : 1 ≤ n) (n1 : n ≤ 100) (h5 : sI μ 141 ct.2.2.2.1 = 5) {o : Int32} (jb : sJ μ 142 ct.2.2.2.1 = Int32.toInt64 o) (o0 : 0 ≤ o) (o1 : o < 46) (a8 : sI σ 397 0 ≠ 8) (ho : sF σ 358 < 200) (hF : sF σ 396 = F) (hm : (200 - (sF σ 358).toInt) ≤ (m : Nat) + 1) {dx dm : Nat} (hx : 5 * m + 20 ≤ dx) (hd : 4 * m + 20 ≤ dm) : G2 e 1000 (M + 1) (bxx6_guard (eN e) (rc_xx6_begin (eN e) dx) σ ct.1 ct.2.1 ct.2.2.1) (bd (mm_openCall (eN e) μ 1 o ct.2.2.2.1 ct.2.2.2.2.1 ct.2.2.2.2.2) (fun z4 => bd ((rc_call (eN e) dm).1 z4 (ct.2.2.2.1 + 1) (n - 1) (-1) 3) (fun z5 => some z5))) := by
  obtain ⟨N1, N2, _⟩ := CL_n H
  obtain ⟨A1, A2, A3, A4, A5⟩ := A
  obtain ⟨q1, q2, q3, q4⟩ := gd_1 n0 n1 N1.1 N1.2.1
  have op := open_x1 (N := eN e) ho
  obtain ⟨f, τ0, x1, x2, x3, x4, C1⟩ := guard_CL E H h5 jb o0 o1 ho
  have om := open_m (N := eN e) (μ := μ) (kd := 1) (fn := o) (to := ct.2.2.2.1) (wn := ct.2.2.2.2.1) (th := ct.2.2.2.2.2) N2.1 (Int32.lt_trans N2.2.1 (by decide)) (by decide) (by decide)
  have frm : m_fr oqM μ (opM 1 o ct.2.2.2.1 ct.2.2.2.2.1 ct.2.2.2.2.2 μ) := opM_fr
  have m154 : sF (opM 1 o ct.2.2.2.1 ct.2.2.2.2.1 ct.2.2.2.2.2 μ) 154 = sF μ 154 + 1 := (opM_p rfl N2.1).1
  have e97 : ∀ k, sI (rowG f ct.1 ct.2.1 ct.2.2.1 τ0) 397 k = sI σ 397 k := fun k => mf_I x3 rfl
  have e98 : ∀ k, sJ (rowG f ct.1 ct.2.1 ct.2.2.1 τ0) 398 k = sJ σ 398 k := fun k => mf_J x3 rfl
  have e99 : sF (rowG f ct.1 ct.2.1 ct.2.2.1 τ0) 399 = n := by rw [mf_F x3 rfl]; exact A1
  obtain ⟨τ, s1, s2, s3, s4⟩ := shift_x (EV_N E) e99 n0 A3 (fun k k0 k1 => by rw [e97]; exact (VV_t8 (A5 k k0 k1)).1)
  have ex : bxx6_guard (eN e) (rc_xx6_begin (eN e) dx) σ ct.1 ct.2.1 ct.2.2.1 = (rc_xx6_begin (eN e) dx).1 τ (sI σ 397 0) (sJ σ 398 0) 0 0 (-1) := by
    have g0 : inB (0 : Int32) 160 = true := by decide
    have c0 : (0 : Int32).toNatClampNeg = 0 := rfl
    have k0 : sI σ 397 0 = sI (rowG f ct.1 ct.2.1 ct.2.2.1 τ0) 397 0 := (e97 0).symm
    have k1 : sJ σ 398 0 = sJ (rowG f ct.1 ct.2.1 ct.2.2.1 τ0) 398 0 := (e98 0).symm
    rw [k0, k1]
    simp only [bxx6_guard, op, bx, x1, bd, lt]
    rw [gd_in (by decide) x2.1 x2.2, gd_in (by decide) x2.1 x2.2, gd_in (by decide) x2.1 x2.2, g0]
    simp only [gd]
    rw [show md_ai (md_ai (md_ai τ0 350 f.toNatClampNeg ct.1) 351 f.toNatClampNeg ct.2.1) 352 f.toNatClampNeg ct.2.2.1 = rowG f ct.1 ct.2.1 ct.2.2.1 τ0 from rfl, s1]
    simp only [sI_fold, sJ_fold]
    exact bx_ok
  rw [ex, om]
  show G2 e 1000 (M + 1) _ (bd ((rc_call (eN e) dm).1 (opM 1 o ct.2.2.2.1 ct.2.2.2.2.1 ct.2.2.2.2.2 μ) (ct.2.2.2.1 + 1) (n - 1) (-1) 3) (fun z5 => some z5))
  rw [bd_id]
  have C2 : CL e w (fU xf c (f :: xf c)) c d rest (0, 0, -1, ct.2.2.2.1 + 1, -1, 3) τ (opM 1 o ct.2.2.2.1 ct.2.2.2.2.1 ct.2.2.2.2.2 μ) := CL_lt C1 (mf_mono s2 (fun k hk => by
    have : k ≠ 397 ∧ k ≠ 398 ∧ k ≠ 399 := by
      refine ⟨fun z => ?_, fun z => ?_, fun z => ?_⟩ <;> rw [z] at hk <;> exact absurd hk (by decide)
    simp only [sh3, List.contains_cons, List.contains_nil, Bool.or_eq_false_iff, beq_eq_false_iff_ne]
    (repeat' (first | exact trivial | omega | apply And.intro)))) mf_rfl (by rw [mf_F s2 rfl]; exact CL_0 C1)
  have i141 : ∀ i, sI (opM 1 o ct.2.2.2.1 ct.2.2.2.2.1 ct.2.2.2.2.2 μ) 141 i = sI μ 141 i ∧ sJ (opM 1 o ct.2.2.2.1 ct.2.2.2.2.1 ct.2.2.2.2.2 μ) 142 i = sJ μ 142 i := fun i => ⟨mf_I frm rfl, mf_J frm rfl⟩
  have z0 : ct.2.2.2.1 + 1 + 0 = ct.2.2.2.1 + 1 := Int32.add_zero _
  have a0 := A5 0 (by decide) q4
  rw [z0] at a0
  have e358 : sF τ 358 = sF σ 358 + 1 := by rw [mf_F s2 rfl, mf_F (rowG_p (f := f) (md := ct.1) (rg := ct.2.1) (wt := ct.2.2.1) (σ := τ0) x2.1).1 rfl]; exact x4
  have p0 := H.1.2.2.2.2.2.2.2.2.1.2.1
  refine BG w _ c d rest (0, 0, -1, ct.2.2.2.1 + 1, -1, 3) τ _ (ct.2.2.2.1 + 1) (n - 1) (sI σ 397 0) (sJ σ 398 0) dx dm C2 ⟨s3, q1.1, q1.2, ?_, fun k k0 k1 => ?_⟩ rfl ?_ a8 ?_ ?_ ?_ hx hd
  · rw [mf_F frm rfl, A4]; exact q2
  · obtain ⟨g1, g2⟩ := gd_2 (p := ct.2.2.2.1) k0 k1 n1
    rw [(s4 k k0 k1).1, (s4 k k0 k1).2, e97, e98, (i141 _).1, (i141 _).2, ← g2]
    exact A5 (k + 1) g1 (q3 k k1)
  · rw [(i141 _).1, (i141 _).2]; exact a0
  · rw [mf_F s2 rfl, mf_F x3 rfl]; exact hF
  · rw [m154]; exact gd_4 N2.2.2
  · rw [e358]; exact gd_3 ho p0 hm
