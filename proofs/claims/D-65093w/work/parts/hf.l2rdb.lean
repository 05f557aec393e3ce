/-! LAYER 2: the two readers: signs of two sides are reduced -/
theorem bd12_all : (List.range 72).all (fun a => !KRb a || ((bdx (Int32.ofNat a) != 1 || Int32.ofNat a == 65) && (bdx (Int32.ofNat a) != 2 || Int32.ofNat a == 50))) = true := by decide +kernel
theorem bd_12 {k : Int32} (h : KR k) : (bdx k = 1 → k = 65) ∧ (bdx k = 2 → k = 50) := by
  obtain ⟨a, a1, a2, e⟩ := KR_n h
  have q := List.all_eq_true.mp bd12_all a (List.mem_range.mpr a1)
  rw [a2, ← e] at q
  simp only [Bool.not_true, Bool.false_or, Bool.and_eq_true, beq_iff_eq, Bool.or_eq_true, bne_iff_ne, ne_eq] at q
  exact ⟨fun z => q.1.elim (fun y => absurd z y) id, fun z => q.2.elim (fun y => absurd z y) id⟩
theorem rdt_2 {N : Nat} {n p e : Int32} {t : Int32 → Int32} {A : Nat → Int} {w : WD} {o : Nat} {c : Int} {σ μ : mS} {x s l : Int32} (h : PS n t A w p e o c σ μ) (hc : c ≤ 600) (hx : sF μ 133 = x + 1) (x0 : 0 ≤ x.toInt) (x1 : x.toInt < 2048) (hs : sI μ 130 x = s) (hl : sI μ 131 x = l) (s0 : 0 ≤ s) (s1 : ¬ s = 10) (s2 : ¬ s = 25) : ∃ μ1 μ2, mm_reduce N μ = some μ2 ∧ mm_value N μ = some μ1 ∧ bd (emh N 23 s 0 l (-1) (md_pi (md_pi μ1 133 x) 69 (sF μ1 69 - (if s = 308 then 1 else 0)))) (fun z => k0 z) = some μ2 ∧ PSw n t A w p e o (c + 2) σ μ2 ∧ m_fr fOp μ μ1 ∧ m_fr fRd μ μ2 ∧ (sF μ2 133 = x ∧ sF μ2 69 = sF μ 69 - (if s = 308 then 1 else 0) ∧ sF μ2 125 = 0) := by
  have pn := PS_pn h
  have g : inB x 2048 = true := tI_in x0 (by omega)
  obtain ⟨μ1, e1, f1, p1⟩ := PS_Op h (value_o (N := N) (PS_RO h 1 (by omega))) (by omega) (by omega)
  have er0 := red_two e1 f1 hx g hs hl s0 s1 s2
  generalize (if s = 308 then (1 : Int32) else 0) = d at er0 ⊢
  have m1 := p1.2.2.2.2.2.1
  have m2 : MI A n.toInt (20 * p.toInt + (c + 1)) o (md_pi (md_pi μ1 133 x) 69 (sF μ1 69 - d)) := MI_69 (MI_133 m1 x0)
  obtain ⟨ν', e2, f2, m3⟩ := MI_Op m2 (emh_o (N := N) (a := 23) (b := s) (c := 0) (l := l) (k := -1) (RO_fr (MI_RO m2) mf_rfl (Int.le_refl _) 1 (by omega))) (by omega) (by omega)
  have er : bd (emh N 23 s 0 l (-1) (md_pi (md_pi μ1 133 x) 69 (sF μ1 69 - d))) (fun z => k0 z) = some (md_pi ν' 125 0) := by rw [e2, bd_so]; rfl
  have m4 : MI A n.toInt (20 * p.toInt + (c + 1) + 1) o (md_pi ν' 125 0) := MI_fr m3 (mf_pi (P := fOp) mf_rfl rfl) MIp_Op (Int.le_refl _) m3.1.2 (Int.le_refl _) (by show tF ν' 75 ≤ _; omega)
  have fr : m_fr fRd μ (md_pi ν' 125 0) := mf_pi (mf_tr (mf_pi (mf_pi (rd_O f1) rfl) rfl) (rd_O f2)) rfl
  refine ⟨μ1, _, er0.trans er, e1, er, ?_, f1, fr, ⟨?_, ?_, rfl⟩⟩
  · refine PSw_fr (PS_w h) (P := fun _ => false) mf_rfl fr (fun _ _ => rfl) (fun k hk => ?_) (by omega) (BXr_up h.2.2.2.2.1 (by omega)) (by rw [show 20 * p.toInt + (c + 2) = 20 * p.toInt + (c + 1) + 1 from by omega]; exact m4)
    simp only [fRd, List.contains_cons, List.contains_nil, Bool.or_eq_false_iff, beq_eq_false_iff_ne]
    (repeat' (first | exact trivial | omega | apply And.intro))
  · show sF ν' 133 = x
    rw [mf_F f2 rfl]; rfl
  · show sF ν' 69 = _
    rw [mf_F f2 rfl, show sF (md_pi (md_pi μ1 133 x) 69 (sF μ1 69 - d)) 69 = sF μ1 69 - d from rfl, mf_F f1 rfl]
theorem rdl_2 {N : Nat} {n p e : Int32} {t : Int32 → Int32} {A : Nat → Int} {w : WD} {o : Nat} {c : Int} {σ μ : mS} {x s j : Int32} (h : PS n t A w p e o c σ μ) (hc : c ≤ 600) (hx : sF μ 133 = x + 1) (x0 : 0 ≤ x.toInt) (x1 : x.toInt < 2048) (hs : sI μ 130 x = s) (hj : sI μ 132 x = j) (hl : s = 10 ∨ s = 25) (j0 : 0 ≤ j.toInt) (j1 : j.toInt < 160000) : ∃ μ1 μ2, mm_reduce N μ = some μ2 ∧ mm_value N μ = some μ1 ∧ bd (fst j (md_pi μ1 133 x)) (fun z => k0 z) = some μ2 ∧ PSw n t A w p e o (c + 2) σ μ2 ∧ m_fr fOp μ μ1 ∧ m_fr fRd μ μ2 ∧ (sF μ2 133 = x ∧ sF μ2 69 = sF μ 69 ∧ sF μ2 125 = 0) := by
  have pn := PS_pn h
  have g : inB x 2048 = true := tI_in x0 (by omega)
  obtain ⟨μ1, e1, f1, p1⟩ := PS_Op h (value_o (N := N) (PS_RO h 1 (by omega))) (by omega) (by omega)
  have er0 := red_log e1 f1 hx g hs hj hl
  have m1 := p1.2.2.2.2.2.1
  have m2 : MI A n.toInt (20 * p.toInt + (c + 1)) o (md_pi μ1 133 x) := MI_133 m1 x0
  obtain ⟨ν', e2, f2, m3⟩ := MI_Op m2 (fst_o (i := j) (j := 1) (RO_fr (MI_RO m2) mf_rfl (Int.le_refl _) 1 (by omega)) j0 j1) (by omega) (by omega)
  have er : bd (fst j (md_pi μ1 133 x)) (fun z => k0 z) = some (md_pi ν' 125 0) := by rw [e2, bd_so]; rfl
  have m4 : MI A n.toInt (20 * p.toInt + (c + 1) + 0) o (md_pi ν' 125 0) := MI_fr m3 (mf_pi (P := fOp) mf_rfl rfl) MIp_Op (Int.le_refl _) m3.1.2 (Int.le_refl _) (by show tF ν' 75 ≤ _; omega)
  have fr : m_fr fRd μ (md_pi ν' 125 0) := mf_pi (mf_tr (mf_pi (rd_O f1) rfl) (rd_O f2)) rfl
  refine ⟨μ1, _, er0.trans er, e1, er, ?_, f1, fr, ⟨?_, ?_, rfl⟩⟩
  · refine PSw_fr (PS_w h) (P := fun _ => false) mf_rfl fr (fun _ _ => rfl) (fun k hk => ?_) (by omega) (BXr_up h.2.2.2.2.1 (by omega)) (MI_up m4 (by omega) (by omega))
    simp only [fRd, List.contains_cons, List.contains_nil, Bool.or_eq_false_iff, beq_eq_false_iff_ne]
    (repeat' (first | exact trivial | omega | apply And.intro))
  · show sF ν' 133 = x
    rw [mf_F f2 rfl]; rfl
  · show sF ν' 69 = _
    rw [mf_F f2 rfl, show sF (md_pi μ1 133 x) 69 = sF μ1 69 from rfl, mf_F f1 rfl]
theorem nk12 : vp_nar .byte (Int32.toInt8 12).toInt32 = 12 := by decide
/-- weights go down -/
theorem wei_a : (List.range 11).all (fun b => (List.range b).all (fun l => (b == 8 || b == 1 || b == 2 || decide (wei b + 4 ≤ wei l)) && (!(b == 1 || b == 2) || decide (wei b + 2 ≤ wei l)))) = true := by decide
theorem wei_0 {l b : Nat} (h : l < b) (hb : b ≤ 10) : (b = 8 ∨ b = 1 ∨ b = 2 ∨ wei b + 4 ≤ wei l) ∧ (b = 1 ∨ b = 2 → wei b + 2 ≤ wei l) := by
  have q := List.all_eq_true.mp (List.all_eq_true.mp wei_a b (List.mem_range.mpr (by omega))) l (List.mem_range.mpr h)
  simp only [Bool.and_eq_true, Bool.or_eq_true, beq_iff_eq, decide_eq_true_eq, Bool.not_eq_true', Bool.or_eq_false_iff, beq_eq_false_iff_ne, ne_eq] at q
  omega
theorem wei_1 {l b : Nat} (h : l < b) (hb : b ≤ 10) (n8 : b ≠ 8) (n1 : b ≠ 1) (n2 : b ≠ 2) : wei b + 4 ≤ wei l := by
  have := (wei_0 h hb).1
  omega
theorem wei_2 {l b : Nat} (h : l < b) (hb : b = 1 ∨ b = 2) : wei b + 2 ≤ wei l := (wei_0 h (by omega)).2 hb
theorem KX_r {σ σ' : mS} {r : Int32} (h : KX σ σ' (-1)) : KX σ σ' r := ⟨h.1, fun i i0 i1 => ⟨(h.2.1 i i0 i1).1, fun _ => (h.2.1 i i0 i1).2 (fun e => by rw [e] at i0; exact absurd i0 (by decide))⟩, h.2.2⟩
/-- the loop of signs goes on at a sign that binds more -/
theorem e84_n {N : Nat} {T : ty_expression} {f h : Nat} {v b : Int32} {μ : mS} (h67 : sF μ 67 = 0) (b0 : ¬ b ≤ 0) (g : v ≤ sF μ 133) (gv : 0 ≤ v) (g2 : tF μ 133 < 2048) (hs : ¬ sF μ 133 ≤ v → gfs (sI μ 130 (sF μ 133 - 1)) b = 0) : mm_expression_84 N T (mm_expression_7 N T f) (h + 1) v b μ = bd (mm_binary N μ) (fun z => mm_expression_7 N T f v 1 z) := by
  have k : mm_expression_124 N T (mm_expression_7 N T f) v b μ = bd (mm_binary N μ) (fun z => mm_expression_7 N T f v 1 z) := by
    rw [mm_expression_124, if_neg b0, mm_expression_133, if_neg n10, if_pos (show μ.1 67 = 0 from h67)]
    rfl
  rw [mm_expression_84, if_pos (show μ.1 67 = 0 from h67)]
  by_cases c : sF μ 133 ≤ v
  · rw [if_pos (show μ.1 133 ≤ v from c)]; exact k
  · have l := Int32.not_le.mp c
    have e : (sF μ 133 - 1).toInt = tF μ 133 - 1 := by
      have q := nam_1 (v := sF μ 133) (Int32.not_lt.mpr (Int32.le_trans gv g)) (by rw [tI_lt, show (100000 : Int32).toInt = 100000 from rfl]; unfold tF at g2; omega)
      rw [show sF μ 133 - 1 = sF μ 133 + (-1) from by rw [Int32.sub_eq_add_neg]]
      exact q
    have l' := tI_lt.mp l
    have v0 := tI_le.mp gv
    rw [show (0 : Int32).toInt = 0 from rfl] at v0
    have gi : inB (sF μ 133 - 1) 2048 = true := tI_in (by unfold tF at e; omega) (by unfold tF at e g2; omega)
    rw [if_neg (show ¬ μ.1 133 ≤ v from c), show μ.1 133 - 1 = sF μ 133 - 1 from rfl, gd_of gi, gf_m, bd_so]
    dsimp only
    rw [show μ.2.2.1 130 (sF μ 133 - 1).toNatClampNeg = sI μ 130 (sF μ 133 - 1) from rfl, hs c, if_pos rfl]
    exact k
theorem e7_n {N : Nat} {T : ty_expression} {f : Nat} {v : Int32} {μ : mS} (h67 : sF μ 67 = 0) : mm_expression_7 N T (f + 1) v 1 μ = mm_expression_18 N T (mm_expression_7 N T f) N v μ := by
  rw [mm_expression_7, if_neg n10, if_pos (show μ.1 67 = 0 from h67)]
theorem gf_p {s b : Int32} (s0 : ¬ s < 0) (h : bdm s < b) : gfs s b = 0 := by
  rw [gfs, if_neg s0, if_neg (Int32.not_lt.mpr (Int32.le_of_lt h)), if_neg (fun q => by rw [q] at h; exact Int32.lt_irrefl h)]
theorem gf_q {s b : Int32} (s0 : ¬ s < 0) (h : b ≤ bdm s) (h1 : b = bdm s → s ≠ 308) : gfs s b = 1 := by
  rw [gfs, if_neg s0]
  by_cases c : b < bdm s
  · rw [if_pos c]
  · have e : b = bdm s := Int32.le_antisymm h (Int32.not_lt.mp c)
    rw [if_neg c, if_pos e.symm, if_neg (h1 e)]
