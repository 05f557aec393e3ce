/-! LAYER 2: functions of the house that call: pcall, resume, yield; begin, whole -/
def s541 (lib : Int32) (σ : mS) : mS := md_pi (md_pi σ 541 lib) 402 0
theorem CL_541 {e : EV} {w : WD} {xf : Int32 → List Int32} {c d : Int32} {rest : PL2} {ct : CT} {σ μ : mS} (H : CL e w xf c d rest ct σ μ) (lib : Int32) : CL e w xf c d rest ct (s541 lib σ) μ := CL_lt H (mf_pi (mf_pi mf_rfl rfl) rfl) mf_rfl (by simp only [s541, sF_pi, sF_pl, sF_ai, sF_al, sG_pi, sG_pl, sG_ai, sG_al, sI_pi, sI_pl, sI_al, sI_ai1, sI_ai2, sJ_pi, sJ_pl, sJ_ai, sJ_al1, sJ_al2, Nat.reduceEqDiff, if_true, if_false, ne_eq, not_false_eq_true, ite_true, ite_false]; exact CL_0 H)
theorem AR_541 {w : WD} {σ μ : mS} {p n : Int32} (A : AR w σ μ p n) (lib : Int32) : AR w (s541 lib σ) μ p n := AR_fr A wle_rfl (P := fun k => [541, 402].contains k) (Q := fun _ => false) (mf_pi (mf_pi mf_rfl rfl) rfl) mf_rfl rfl rfl rfl rfl rfl rfl
theorem VV_co {w : WD} {tx tm : Int32} {vx vm : Int64} (v : VV w tx vx tm vm) : tx = 7 ↔ tm = 6 := by
  rcases v with ⟨rfl, rfl, _⟩ | ⟨rfl, rfl, _⟩ | ⟨rfl, rfl, _⟩ | ⟨rfl, rfl, _⟩ | ⟨rfl, rfl, _⟩ | ⟨rfl, rfl, _⟩ | ⟨rfl, rfl, _⟩ | ⟨rfl, rfl, _⟩ | ⟨rfl, rfl, _⟩ <;> decide
theorem VV_co7 {w : WD} {tx tm : Int32} {vx vm : Int64} (v : VV w tx vx tm vm) (h : tx = 7) : ∃ a b, vx = Int32.toInt64 a ∧ vm = Int32.toInt64 b ∧ ((a, b) ∈ wC w ∨ (a = 0 ∧ b = 120)) := by
  subst h
  rcases v with ⟨h, _⟩ | ⟨h, _⟩ | ⟨h, _⟩ | ⟨h, _⟩ | ⟨h, _⟩ | ⟨h, _⟩ | ⟨h, _⟩ | ⟨_, _, h⟩ | ⟨h, _⟩
  case _ => exact absurd h (by decide)
  case _ => exact absurd h (by decide)
  case _ => exact absurd h (by decide)
  case _ => exact absurd h (by decide)
  case _ => exact absurd h (by decide)
  case _ => exact absurd h (by decide)
  case _ => exact absurd h (by decide)
  case _ => exact h
  case _ => exact absurd h (by decide)
theorem ow_1 {n : Int32} (h : ¬ n < 1) (h1 : n ≤ 145) : 1 ≤ n ∧ 0 ≤ n - 1 ∧ n - 1 ≤ 300 ∧ 0 < n ∧ ∀ k, k < n - 1 → k + 1 < n := ⟨by lia, by lia, by lia, by lia, fun k hk => by lia⟩
theorem ow_2 {n : Int32} (h : 1 ≤ n) (h1 : n ≤ 100) : n - 1 ≤ 100 := by lia
theorem ow_3 {p k : Int32} : p + 2 + k = p + 1 + (k + 1) := by lia
theorem ow_4 {p : Int32} (h0 : 0 ≤ p) (h1 : p ≤ 475000) : 0 ≤ p + 2 ∧ p + 2 ≤ 480000 := ⟨by lia, by lia⟩
theorem ow_5 {k n : Int32} (k0 : 0 ≤ k) (h : k < n - 1) (h1 : n ≤ 145) : 0 ≤ k + 1 := by lia
theorem ow_6 {p : Int32} (h0 : 0 ≤ p) (h1 : p ≤ 475000) : 0 ≤ p + 1 ∧ p + 1 < 500000 := ⟨by lia, by lia⟩
theorem ow_n {a b : Nat} (ha : a < 100) (hb : b < 100) (h : Int32.ofNat a = OfNat.ofNat b) : a = b := by
  have h' : Int32.ofNat a = Int32.ofNat b := h
  have := congrArg Int32.toInt h'
  rw [tI_lit (by omega), tI_lit (by omega)] at this
  omega
theorem bx_zz {o : Option (Except (Nat × mS) mS)} : bx (bx o (fun z4 => gd (zB ((0 : Int32))) (some (Except.ok ((0 : Int32), z4))))) (fun z10 => gd (zB (z10.1)) (some (Except.ok (z10.1, z10.2)))) = bx o (fun z4 => gd (zB ((0 : Int32))) (some (Except.ok ((0 : Int32), z4)))) := by
  cases o with
  | none => rfl
  | some u => cases u <;> rfl
/-- the house's function of a number -/
theorem enterL_x {N : Nat} {T : ty_xx6_begin} {σ : mS} {md rg wt o : Int32} (o0 : 0 ≤ o) (o1 : o < 46) (ja : sG σ 409 = Int32.toInt64 (-1 - o)) : bxx6_enter N T σ md rg wt = bx (T.2.2.2.2.1 σ o md rg wt) (fun z25 => (if (z25.1 : Int32) = 0 then xx6_enter_b36 N T z25.2 else bx (xx6_give N z25.2 md rg wt) (fun z26 => xx6_enter_b36 N T z26))) := by
  have ll : (Int32.toInt64 (-1 - o)).toInt32 = -1 - o := h_ll _
  have nb : ¬ (0 : Int32) ≤ -1 - o := by lia
  simp only [bxx6_enter, lt, sG_fold]
  rw [ja, ll, if_neg nb, bg_4]
/-- the house's functions -/
theorem enterO_2 {e : EV} (E : EVok e) (LB : LBst e) {M : Nat} {F : Int32} (hM : M + 1 < eN e) (G : HG e M F 200) {m : Nat} (BG : ∀ m', m = m' + 1 → BGst e M F 200 m') {w : WD} {xf : Int32 → List Int32} {c d n : Int32} {rest : PL2} {ct : CT} {σ μ : mS} {lib : Nat} (hl : lib < 46) (H : CL e w xf c d rest ct σ μ) (A : AR w σ μ ct.2.2.2.1 n) (n1 : n ≤ 100) (h5 : sI μ 141 ct.2.2.2.1 = 5) (ja : sG σ 409 = Int32.toInt64 (-1 - Int32.ofNat lib)) (jb : sJ μ 142 ct.2.2.2.1 = Int32.toInt64 (Int32.ofNat lib)) (hF : sF σ 396 = F) (hm : (200 - (sF σ 358).toInt) ≤ (m : Nat)) {dx dm : Nat} (hx : 5 * m + 15 ≤ dx) (hd : 4 * m + 16 ≤ dm) : G2 e 1000 (M + 1) (bxx6_enter (eN e) (rc_xx6_begin (eN e) (dx + 3)) σ ct.1 ct.2.1 ct.2.2.1) (mb_enterOwn (eN e) (rc_call (eN e) (dm + 1)) μ (Int32.ofNat lib) ct.2.2.2.1 n ct.2.2.2.2.1 ct.2.2.2.2.2) := by
  have hE := E.1
  have RA := (GFR E G hM 200).2
  have GF := (GFR E G hM 200).1
  have n2 := nn_200 H
  obtain ⟨N1, N2, _⟩ := CL_n H
  have l0 : (0 : Int32) ≤ Int32.ofNat lib := oN_nn (by omega)
  have l1 : Int32.ofNat lib < 46 := by rw [show (46 : Int32) = Int32.ofNat 46 from rfl, oN_lt (by omega) (by omega)]; exact hl
  rw [enterL_x l0 l1 ja]
  have C1 := CL_541 H (Int32.ofNat lib)
  have A1 := AR_541 A (Int32.ofNat lib)
  have h541 : sF (s541 (Int32.ofNat lib) σ) 541 = Int32.ofNat lib := by simp only [s541, sF_pi, sF_pl, sF_ai, sF_al, sG_pi, sG_pl, sG_ai, sG_al, sI_pi, sI_pl, sI_al, sI_ai1, sI_ai2, sJ_pi, sJ_pl, sJ_ai, sJ_al1, sJ_al2, Nat.reduceEqDiff, if_true, if_false, ne_eq, not_false_eq_true, ite_true, ite_false]
  have hF1 : sF (s541 (Int32.ofNat lib) σ) 396 = F := by simp only [s541, sF_pi, sF_pl, sF_ai, sF_al, sG_pi, sG_pl, sG_ai, sG_al, sI_pi, sI_pl, sI_al, sI_ai1, sI_ai2, sJ_pi, sJ_pl, sJ_ai, sJ_al1, sJ_al2, Nat.reduceEqDiff, if_true, if_false, ne_eq, not_false_eq_true, ite_true, ite_false]; exact hF
  have hm1 : (200 - (sF (s541 (Int32.ofNat lib) σ) 358).toInt) ≤ (m : Nat) := by simp only [s541, sF_pi, sF_pl, sF_ai, sF_al, sG_pi, sG_pl, sG_ai, sG_al, sI_pi, sI_pl, sI_al, sI_ai1, sI_ai2, sJ_pi, sJ_pl, sJ_ai, sJ_al1, sJ_al2, Nat.reduceEqDiff, if_true, if_false, ne_eq, not_false_eq_true, ite_true, ite_false]; exact hm
  have T1 : (rc_xx6_begin (eN e) (dx + 3)).2.2.2.2.1 σ (Int32.ofNat lib) ct.1 ct.2.1 ct.2.2.1 = bxx8_call (eN e) (rc_xx6_begin (eN e) (dx + 2)) σ (Int32.ofNat lib) ct.1 ct.2.1 ct.2.2.1 := rfl
  rw [T1]
  by_cases h6 : lib = 6
  · subst h6
    have s6 : bxx8_call (eN e) (rc_xx6_begin (eN e) (dx + 2)) σ (Int32.ofNat 6) ct.1 ct.2.1 ct.2.2.1 = bx (xx6_mayOpen (eN e) (s541 (Int32.ofNat 6) σ)) (fun z2 => bx (xx8_any (eN e) z2 1) (fun z3 => bx (bxx6_guard (eN e) (rc_xx6_begin (eN e) (dx + 1)) z3 ct.1 ct.2.1 ct.2.2.1) (fun z4 => gd (zB ((0 : Int32))) (some (Except.ok ((0 : Int32), z4)))))) := rfl
    have m6 : mb_enterOwn (eN e) (rc_call (eN e) (dm + 1)) μ (Int32.ofNat 6) ct.2.2.2.1 n ct.2.2.2.2.1 ct.2.2.2.2.2 = bd (mm_mayOpen (eN e) μ) (fun z3 => (if (z3.1 : Int32) = 0 then some z3.2 else (if ((1 : Int32) : Int32) ≤ n then bd (mm_openCall (eN e) z3.2 ((1 : Int32)) (Int32.ofNat 6) ct.2.2.2.1 ct.2.2.2.2.1 ct.2.2.2.2.2) (fun z4 => bd ((rc_call (eN e) (dm + 1)).1 z4 (ct.2.2.2.1 + 1) (n - 1) ((-1 : Int32)) ((3 : Int32))) (fun z5 => some z5)) else bd (mm_bad (eN e) z3.2 ((1 : Int32)) (Int32.ofNat 6)) (fun z6 => some z6)))) := rfl
    rw [s6, m6]
    rcases open_2 E C1 with ⟨ho, o1, o2⟩ | OE1
    · rw [o1, o2]
      show G2 e 1000 (M + 1) (bx (bx (xx8_any (eN e) (s541 (Int32.ofNat 6) σ) 1) _) _) (if (1 : Int32) = 0 then some μ else _)
      rw [if_neg (by decide)]
      by_cases c1 : 1 ≤ n
      · rw [if_pos c1]
        have an : xx8_any (eN e) (s541 (Int32.ofNat 6) σ) 1 = some (.ok (s541 (Int32.ofNat 6) σ)) := by
          simp only [xx8_any, sF_fold]
          rw [A1.1, if_pos c1]
        rw [an]
        show G2 e 1000 (M + 1) (bx (bx (bxx6_guard (eN e) (rc_xx6_begin (eN e) (dx + 1)) (s541 (Int32.ofNat 6) σ) ct.1 ct.2.1 ct.2.2.1) (fun z4 => gd (zB ((0 : Int32))) (some (Except.ok ((0 : Int32), z4))))) _) _
        rw [bx_z0]
        have m1 := bg_1 ho hm1
        obtain ⟨m', rfl⟩ : ∃ i, m = i + 1 := ⟨m - 1, by omega⟩
        exact guard_2 E (BG m' rfl) C1 A1 c1 n1 h5 jb l0 l1 (VV_8 (A1.2.2.2.2 0 (by decide) (Int32.lt_of_lt_of_le (by decide) c1))) ho hF1 (by omega) (by omega) (by omega)
      · rw [if_neg c1]
        have an : xx8_any (eN e) (s541 (Int32.ofNat 6) σ) 1 = bx (xx8_bad (eN e) (s541 (Int32.ofNat 6) σ) 1) (fun z1 => some (Except.error (z1.1, z1.2))) := by
          simp only [xx8_any, sF_fold]
          rw [A1.1, if_neg c1]
        rw [an, bd_id]
        exact OE_G2 E RA (OE_bx (OE_bx (bad_OE E C1 (by decide) h541))) hF1 n2.1 n2.2
    · exact OE_G2 E RA (OE_bd (OE_bx (OE_bx OE1)) (fun z => by rw [if_pos rfl])) hF1 n2.1 n2.2
  · have ne6 : ¬ Int32.ofNat lib = (6 : Int32) := fun z => h6 (ow_n (b := 6) (by omega) (by omega) z)
    by_cases h39 : lib = 39
    · subst h39
      have s39 : bxx8_call (eN e) (rc_xx6_begin (eN e) (dx + 2)) σ (Int32.ofNat 39) ct.1 ct.2.1 ct.2.2.1 = bx (bx (xx6_mayOpen (eN e) (s541 (Int32.ofNat 39) σ)) (fun z14 => bx (xx8_coroutine (eN e) z14 1) (fun z15 => bd (xx6_shiftArgs (eN e) z15.2) (fun z16 => bx (bxx6_resume (eN e) (rc_xx6_begin (eN e) dx) z16 z15.1 0 ct.1 ct.2.1 ct.2.2.1) (fun z17 => gd (zB ((0 : Int32))) (some (Except.ok ((0 : Int32), z17)))))))) (fun z10 => gd (zB (z10.1)) (some (Except.ok (z10.1, z10.2)))) := rfl
      have m39 : mb_enterOwn (eN e) (rc_call (eN e) (dm + 1)) μ (Int32.ofNat 39) ct.2.2.2.1 n ct.2.2.2.2.1 ct.2.2.2.2.2 = bd (mm_mayOpen (eN e) μ) (fun z7 => (if (z7.1 : Int32) = 0 then some z7.2 else (if n < ((1 : Int32) : Int32) then bd (mm_bad (eN e) z7.2 1 39) (fun z1 => some z1) else gd (inB (ct.2.2.2.1 + 1) 500000) ((if sI z7.2 141 (ct.2.2.2.1 + 1) = ((6 : Int32) : Int32) then gd (inB (ct.2.2.2.1 + 1) 500000) (lt ((Int64.toInt32 (sJ z7.2 142 (ct.2.2.2.1 + 1)))) (fun x8 : Int32 => bd (mm_gather (eN e) z7.2 (ct.2.2.2.1 + 2) (n - 1)) (fun z9 => lt (md_pi z9 143 ct.2.2.2.1) (fun σ10 : mS => bd (mb_goOn (eN e) (rc_call (eN e) dm) σ10 (x8) ((2 : Int32)) ct.2.2.2.1 ct.2.2.2.2.1 ct.2.2.2.2.2) (fun z11 => some z11))))) else bd (mm_bad (eN e) z7.2 1 39) (fun z1 => some z1)))))) := rfl
      rw [s39, m39]
      rcases open_2 E C1 with ⟨ho, o1, o2⟩ | OE1
      · rw [o1, o2]
        show G2 e 1000 (M + 1) (bx (bx (bx (xx8_coroutine (eN e) (s541 (Int32.ofNat 39) σ) 1) _) _) _) (if (1 : Int32) = 0 then some μ else _)
        rw [if_neg (by decide)]
        have badE : ∀ {f1 : Int32 × mS → Option (Except (Nat × mS) (Int32 × mS))} {f2 : Int32 × mS → Option (Except (Nat × mS) (Int32 × mS))} {f3 : Int32 × mS → Option (Except (Nat × mS) mS)}, G2 e 1000 (M + 1) (bx (bx (bx (bx (xx8_bad (eN e) (s541 (Int32.ofNat 39) σ) 1) (fun z3 => some (Except.error (z3.1, z3.2)))) f1) f2) f3) (bd (mm_bad (eN e) μ 1 39) (fun z1 => some z1)) := fun {f1 f2 f3} => by
          rw [bd_id]
          exact OE_G2 E RA (OE_bx (OE_bx (OE_bx (bad_OE E C1 (lib := 39) (by decide) h541)))) hF1 n2.1 n2.2
        by_cases c1 : n < 1
        · rw [if_pos c1]
          have co : xx8_coroutine (eN e) (s541 (Int32.ofNat 39) σ) 1 = bx (xx8_bad (eN e) (s541 (Int32.ofNat 39) σ) 1) (fun z3 => some (Except.error (z3.1, z3.2))) := by
            simp only [xx8_coroutine, xx8_tag, xx8_tag_b26, sF_fold]
            rw [A1.1, if_pos c1]
            simp only [bd]
            rw [if_neg (by decide)]
          rw [co]
          exact badE
        · rw [if_neg c1]
          obtain ⟨w1, w2, w3, w4, w5⟩ := ow_1 c1 A.2.2.1
          obtain ⟨p1, p2⟩ := ow_6 N1.1 N1.2.1
          have v0 := A1.2.2.2.2 0 (by decide) w4
          rw [Int32.add_zero] at v0
          have i0 : inB ((1 : Int32) - 1) 160 = true := by decide
          have z0 : ((1 : Int32) - 1).toNatClampNeg = 0 := rfl
          have cl0 : (0 : Int32).toNatClampNeg = 0 := rfl
          have tagx : xx8_tag (eN e) (s541 (Int32.ofNat 39) σ) 1 = some (sI (s541 (Int32.ofNat 39) σ) 397 0, s541 (Int32.ofNat 39) σ) := by
            simp only [xx8_tag, xx8_tag_b26, sF_fold]
            rw [A1.1, if_neg c1, i0]
            rfl
          rw [gd_in (by decide) p1 p2]
          by_cases c7 : sI (s541 (Int32.ofNat 39) σ) 397 0 = 7
          · rw [if_pos ((VV_co v0).mp c7), gd_in (by decide) p1 p2]
            obtain ⟨a, b, ea, eb, hab⟩ := VV_co7 v0 c7
            obtain ⟨τ, t1, t2, t3, t4⟩ := shift_x (EV_N E) A1.1 w1 A1.2.2.1 (fun k k0 k1 => (VV_t8 (A1.2.2.2.2 k k0 k1)).1)
            have co : xx8_coroutine (eN e) (s541 (Int32.ofNat 39) σ) 1 = some (.ok (a, s541 (Int32.ofNat 39) σ)) := by
              simp only [xx8_coroutine]
              rw [tagx]
              simp only [bd]
              rw [if_pos c7]
              simp only [xx8_value, xx8_value_b26, sF_fold]
              rw [A1.1, if_neg c1, i0]
              show some (Except.ok ((sJ (s541 (Int32.ofNat 39) σ) 398 0).toInt32, s541 (Int32.ofNat 39) σ)) = _
              rw [ea, h_ll]
            rw [co]
            show G2 e 1000 (M + 1) (bx (bx (bd (xx6_shiftArgs (eN e) (s541 (Int32.ofNat 39) σ)) (fun z16 => bx (bxx6_resume (eN e) (rc_xx6_begin (eN e) dx) z16 a 0 ct.1 ct.2.1 ct.2.2.1) (fun z17 => gd (zB ((0 : Int32))) (some (Except.ok ((0 : Int32), z17)))))) (fun z10 => gd (zB (z10.1)) (some (Except.ok (z10.1, z10.2))))) _) _
            rw [t1]
            show G2 e 1000 (M + 1) (bx (bx (bx (bxx6_resume (eN e) (rc_xx6_begin (eN e) dx) τ a 0 ct.1 ct.2.1 ct.2.2.1) (fun z17 => gd (zB ((0 : Int32))) (some (Except.ok ((0 : Int32), z17))))) (fun z10 => gd (zB (z10.1)) (some (Except.ok (z10.1, z10.2))))) _) _
            rw [bx_zz, bx_z0]
            have r2 := ow_4 N1.1 N1.2.1
            obtain ⟨τm, g1, g2, g3, g4⟩ := gather_m (EV_N E) (μ := μ) (from' := ct.2.2.2.1 + 2) (n := n - 1) r2.1 r2.2 w2 w3 (fun k k0 k1 => by
              rw [ow_3]
              exact (VV_t8 (A1.2.2.2.2 (k + 1) (ow_5 k0 k1 A.2.2.1) (w5 k k1))).2)
            simp only [lt, g1, bd]
            rw [eb, h_ll]
            have C2 : CL e w xf c d rest ct τ (md_pi τm 143 ct.2.2.2.1) := CL_ag C1 (mf_mono t2 (fun k hk => by
              have : k ≠ 397 ∧ k ≠ 398 ∧ k ≠ 399 := by
                refine ⟨fun z => ?_, fun z => ?_, fun z => ?_⟩ <;> rw [z] at hk <;> exact absurd hk (by decide)
              simp only [sh3, List.contains_cons, List.contains_nil, Bool.or_eq_false_iff, beq_eq_false_iff_ne]
              (repeat' (first | exact trivial | omega | apply And.intro)))) (mf_pi (ltM_ag (vM_l g2)) rfl) (by rw [mf_F t2 rfl]; exact CL_0 C1) (fun i _ _ => by
              simp only [sF_pi, sF_pl, sF_ai, sF_al, sG_pi, sG_pl, sG_ai, sG_al, sI_pi, sI_pl, sI_al, sI_ai1, sI_ai2, sJ_pi, sJ_pl, sJ_ai, sJ_al1, sJ_al2, Nat.reduceEqDiff, if_true, if_false, ne_eq, not_false_eq_true, ite_true, ite_false]
              exact ⟨mf_I g2 rfl, mf_J g2 rfl⟩)
            have m1 := bg_1 ho hm1
            obtain ⟨m', rfl⟩ : ∃ i, m = i + 1 := ⟨m - 1, by omega⟩
            have ho2 : sF τ 358 < 200 := by rw [mf_F t2 rfl]; exact ho
            have go := resume_2 E GF RA (BG m' rfl) (a := a) (b := b) (n := n - 1) (wr := 0) (kd := 2) C2 rfl t3 w2 (ow_2 w1 n1) (by simp only [sF_pi, sF_pl, sF_ai, sF_al, sG_pi, sG_pl, sG_ai, sG_al, sI_pi, sI_pl, sI_al, sI_ai1, sI_ai2, sJ_pi, sJ_pl, sJ_ai, sJ_al1, sJ_al2, Nat.reduceEqDiff, if_true, if_false, ne_eq, not_false_eq_true, ite_true, ite_false]; exact g3) (fun k k0 k1 => by
              rw [(t4 k k0 k1).1, (t4 k k0 k1).2]
              simp only [sF_pi, sF_pl, sF_ai, sF_al, sG_pi, sG_pl, sG_ai, sG_al, sI_pi, sI_pl, sI_al, sI_ai1, sI_ai2, sJ_pi, sJ_pl, sJ_ai, sJ_al1, sJ_al2, Nat.reduceEqDiff, if_true, if_false, ne_eq, not_false_eq_true, ite_true, ite_false]
              rw [(g4 k k0 k1).1, (g4 k k0 k1).2, ow_3]
              exact A1.2.2.2.2 (k + 1) (ow_5 k0 k1 A.2.2.1) (w5 k k1)) (by simp only [sF_pi, sF_pl, sF_ai, sF_al, sG_pi, sG_pl, sG_ai, sG_al, sI_pi, sI_pl, sI_al, sI_ai1, sI_ai2, sJ_pi, sJ_pl, sJ_ai, sJ_al1, sJ_al2, Nat.reduceEqDiff, if_true, if_false, ne_eq, not_false_eq_true, ite_true, ite_false]) hab ho2 (by rw [mf_F t2 rfl]; exact hF1) (.inl ⟨rfl, rfl⟩) (by rw [mf_F t2 rfl]; omega) (dx := dx) (dm := dm) (by omega) (by omega)
            show G2 e 1000 (M + 1) _ (bd (mb_goOn (eN e) (rc_call (eN e) dm) (md_pi τm 143 ct.2.2.2.1) b 2 ct.2.2.2.1 ct.2.2.2.2.1 ct.2.2.2.2.2) (fun z11 => some z11))
            exact G2_bd go
          · rw [if_neg (fun z => c7 ((VV_co v0).mpr z))]
            have co : xx8_coroutine (eN e) (s541 (Int32.ofNat 39) σ) 1 = bx (xx8_bad (eN e) (s541 (Int32.ofNat 39) σ) 1) (fun z3 => some (Except.error (z3.1, z3.2))) := by
              simp only [xx8_coroutine]
              rw [tagx]
              simp only [bd]
              rw [if_neg c7]
            rw [co]
            exact badE
      · exact OE_G2 E RA (OE_bd (OE_bx (OE_bx (OE_bx OE1))) (fun z => by rw [if_pos rfl])) hF1 n2.1 n2.2
    · by_cases h40 : lib = 40
      · subst h40
        have s40 : bxx8_call (eN e) (rc_xx6_begin (eN e) (dx + 2)) σ (Int32.ofNat 40) ct.1 ct.2.1 ct.2.2.1 = bx (bx (xx6_yield (eN e) (s541 (Int32.ofNat 40) σ) ct.1 ct.2.1 ct.2.2.1) (fun z18 => gd (zB ((0 : Int32))) (some (Except.ok ((0 : Int32), z18))))) (fun z10 => gd (zB (z10.1)) (some (Except.ok (z10.1, z10.2)))) := rfl
        have m40 : mb_enterOwn (eN e) (rc_call (eN e) (dm + 1)) μ (Int32.ofNat 40) ct.2.2.2.1 n ct.2.2.2.2.1 ct.2.2.2.2.2 = (if sF μ 172 = 120 then bd (mm_fault_2 (eN e) μ 12) (fun z => some z) else bd (mm_gather (eN e) μ (ct.2.2.2.1 + 1) n) (fun z => lt (md_pi z 143 ct.2.2.2.1) (fun s => bd (mm_lay (eN e) s ct.2.2.2.1 ct.2.2.2.2.1 ct.2.2.2.2.2) (fun z => some z)))) := rfl
        rw [s40, m40, bx_zz, bx_z0]
        exact yield_2 E GF RA C1 A1 n1 hF1
      · have ne39 : ¬ Int32.ofNat lib = (39 : Int32) := fun z => h39 (ow_n (b := 39) (by omega) (by omega) z)
        have ne40 : ¬ Int32.ofNat lib = (40 : Int32) := fun z => h40 (ow_n (b := 40) (by omega) (by omega) z)
        have mo : mb_enterOwn (eN e) (rc_call (eN e) (dm + 1)) μ (Int32.ofNat lib) ct.2.2.2.1 n ct.2.2.2.2.1 ct.2.2.2.2.2 = mm_own (eN e) μ (Int32.ofNat lib) ct.2.2.2.1 n ct.2.2.2.2.1 ct.2.2.2.2.2 := by
          simp only [mb_enterOwn]
          rw [if_neg ne6, if_neg ne39, if_neg ne40, bd_id]
        rw [mo]
        obtain ⟨nx1, nx2⟩ := NX_of w xf
        rcases LB (dx + 1) w _ c d rest ct σ μ n lib (CL_xf H nx2) nx1 A n1 hl h6 h39 h40 with ⟨w', τ, τm, gn, b1, b2, b3, b4, b5, b6⟩ | OE1
        · rw [b1, b2]
          show G2 e 1000 (M + 1) (bx (xx6_give (eN e) τ ct.1 ct.2.1 ct.2.2.1) (fun z26 => some (.ok z26))) _
          rw [bx_ok]
          exact give_G2 E GF b3 b4 b5 (by rw [b6]; exact hF)
        · exact OE_G2 E RA (OE_bx OE1) hF n2.1 n2.2
