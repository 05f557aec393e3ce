/-! LAYER 2: yield, whole -/
theorem yl_1 {k : Int32} (h : 1 ≤ k) (h1 : k ≤ 256) : 0 ≤ k - 1 ∧ k - 1 < 256 := ⟨by lia, by lia⟩
theorem lw_yM {μ τ : mS} (h : m_fr lwK μ τ) : m_fr yM μ τ := mf_mono h (fun k hk => by
  simp only [yM, inR, List.contains_cons, List.contains_nil, Bool.or_eq_false_iff, beq_eq_false_iff_ne, Bool.and_eq_false_iff, Bool.or_eq_false_iff, decide_eq_false_iff_not] at hk
  exact lwK_f (by omega))
/-- yield -/
theorem yield_2 {e : EV} (E : EVok e) {M : Nat} {F : Int32} (GF : GFst e M F 200 200) (RA : RAst e M F 200 200) {w : WD} {xf : Int32 → List Int32} {c d n : Int32} {rest : PL2} {ct : CT} {σ μ : mS} (H : CL e w xf c d rest ct σ μ) (A : AR w σ μ ct.2.2.2.1 n) (n1 : n ≤ 100) (hF : sF σ 396 = F) : G2 e 1000 (M + 1) (xx6_yield (eN e) σ ct.1 ct.2.1 ct.2.2.1) (if sF μ 172 = 120 then bd (mm_fault_2 (eN e) μ 12) (fun z => some z) else bd (mm_gather (eN e) μ (ct.2.2.2.1 + 1) n) (fun z => lt (md_pi z 143 ct.2.2.2.1) (fun s => bd (mm_lay (eN e) s ct.2.2.2.1 ct.2.2.2.2.1 ct.2.2.2.2.2) (fun z => some z)))) := by
  have hN := EV_N E
  have now := H.1.2.2.2.2.2.2.1
  have cc := ME_c H.1
  have bb := CL_b H
  by_cases hd : d = 120
  · have c00 : c = 0 := cc.2.2.2.2.2.2.mp hd
    have ex : xx6_yield (eN e) σ ct.1 ct.2.1 ct.2.2.1 = bx (xx6_fault (eN e) σ (3000 + 8)) (fun z => some (Except.error (z.1, z.2))) := by
      simp only [xx6_yield, lt, sF_fold]
      rw [now.1, if_pos c00]
    rw [now.2.1, if_pos hd, ex, bd_id]
    have n200 : sF μ 154 - 1 ≤ 200 := y_m bb.2.2.1.1 bb.2.2.1.2.1 bb.2.2.1.2.2
    have nn : (sF μ 154).toInt ≤ (200 : Nat) := by have := bb.2.2.1.2.2; rw [tI_le] at this; exact this
    exact OE_G2 E RA (fault_OE E H (t := 8) (tm := 12) (by decide) (by decide) tx_8 (by decide +kernel)) hF n200 nn
  · cases rest with
    | nil => exact absurd (cc.2.2.2.2.2.1.mpr rfl) hd
    | cons p rest =>
    obtain ⟨c2, d2⟩ := p
    have cn0 : c ≠ 0 := fun z => hd (cc.2.2.2.2.2.2.mpr z)
    obtain ⟨τm, g1, g2, g3, g4, g5⟩ := AR_ga E H A
    rw [now.2.1, if_neg hd, g1]
    show G2 e 1000 (M + 1) _ (bd (mm_lay (eN e) (md_pi τm 143 ct.2.2.2.1) ct.2.2.2.1 ct.2.2.2.2.1 ct.2.2.2.2.2) (fun z => some z))
    rw [bd_id]
    have top : sF (md_pi τm 143 ct.2.2.2.1) 143 = ct.2.2.2.1 := by simp only [sF_pi, sF_pl, sF_ai, sF_al, sG_pi, sG_pl, sG_ai, sG_al, sI_pi, sI_pl, sI_al, sI_ai1, sI_ai2, sJ_pi, sJ_pl, sJ_ai, sJ_al1, sJ_al2, Nat.reduceEqDiff, if_true, if_false, ne_eq, not_false_eq_true, ite_true, ite_false]
    generalize md_pi τm 143 ct.2.2.2.1 = μ1 at *
    obtain ⟨υ, u1, u2, u3, u4, u5, u6, u7, u8⟩ := lay_m E g2 hd top (wn := ct.2.2.2.2.1) (th := ct.2.2.2.2.2)
    have M1 := g2.1
    have B1 := M1.2.2.2.2.2.1
    have W := M1.1.1.1
    have w6 := W.2.2.2.2.2 c d B1.1
    have r2 : (0 ≤ c2 ∧ c2 < 121) ∧ 0 ≤ d2 ∧ d2 < 121 := by
      rcases BC_mem B1 (c2, d2) (List.mem_cons_of_mem _ List.mem_cons_self) with y | ⟨y, _⟩
      · obtain ⟨y1, y2⟩ := Prod.mk.inj y
        subst y1; subst y2
        exact ⟨⟨by decide, by decide⟩, by decide, by decide⟩
      · have w7 := W.2.2.2.2.2 c2 d2 y
        have c7 := (M1.2.2.2.2.1.1 c2 d2 y).1
        exact ⟨⟨Int32.le_trans (by decide) w7.1, Int32.lt_of_le_of_lt c7 (by decide)⟩, w7.2.1, Int32.lt_trans w7.2.2 (by decide)⟩
    have i162 : sI υ 162 d = sI μ1 162 d := mf_I u2 (lwK_f (by omega))
    have i160 : sI υ 160 d = d2 := by rw [mf_I u2 (lwK_f (by omega))]; exact B1.2.2.2.2.2.1.2
    have k1 := yl_1 B1.2.2.1.1 B1.2.2.1.2
    obtain ⟨m1, m2, m3, m4, m5, m6, m7, m8⟩ := layR_p (to := ct.2.2.2.1) (wn := ct.2.2.2.2.1) (th := ct.2.2.2.2.2) (b := sI μ1 161 d) (υ := υ) w6.2.1 (by rw [i160]; exact r2.2.1)
    rw [u1, toR_m (by rw [i162]; exact k1.1) (by rw [i162]; exact k1.2)]
    rw [i160] at m4 m5
    rw [i162] at m2
    -- the system
    obtain ⟨x1, x2, x3, x4, x5, x6, x7, x8⟩ := yldX_p (c := c) (c2 := c2) (a1 := ct.1) (a2 := ct.2.1) (a3 := ct.2.2.1) (σ := σ) cc.2.1 r2.1.1
    rw [yld_x now.1 cn0 cc.2.1 cc.2.2.1 B1.2.2.2.2.2.1.1 r2.1.1 r2.1.2]
    obtain ⟨A1, A2, A3, A4, A5⟩ := A
    generalize yldX c c2 ct.1 ct.2.1 ct.2.2.1 σ = s2 at *
    have s7 : ∀ k, sI s2 397 k = sI σ 397 k := fun k => mf_I x1 rfl
    have s8 : ∀ k, sJ s2 398 k = sJ σ 398 k := fun k => mf_J x1 rfl
    obtain ⟨t, t1, t2, t3, t4⟩ := yl79_lp (N := eN e) (σ := s2) (n := n) (a := c) cc.2.1 cc.2.2.1 (by rw [mf_F x1 rfl]; exact A1) A2 n1 (fun k k0 k1 => by rw [s7]; exact (VV_t8 (A5 k k0 k1)).1) (eN e) 0 (by decide) A2 (big_d hN) s2 mf_rfl x8 (fun k k0 k1 => absurd k1 (Int32.not_lt.mpr k0))
    rw [t1]
    generalize hμ4 : layR ct.2.2.2.1 ct.2.2.2.2.1 ct.2.2.2.2.2 d (sI μ1 161 d) υ = μ4 at *
    have fr : m_fr yX σ t := mf_tr (mf_mono x1 (fun k hk => by
      simp only [yX, inR, List.contains_cons, List.contains_nil, Bool.or_eq_false_iff, beq_eq_false_iff_ne, Bool.and_eq_false_iff, Bool.or_eq_false_iff, decide_eq_false_iff_not] at hk ⊢
      (repeat' (first | exact trivial | omega | apply And.intro)))) (mf_mono t2 (fun k hk => by
      simp only [yX, vK, inR, List.contains_cons, List.contains_nil, Bool.or_eq_false_iff, beq_eq_false_iff_ne, Bool.and_eq_false_iff, Bool.or_eq_false_iff, decide_eq_false_iff_not] at hk ⊢
      (repeat' (first | exact trivial | omega | apply And.intro))))
    have frm : m_fr yM μ1 μ4 := mf_tr (lw_yM u2) (mf_mono m1 (fun k hk => by
      simp only [yM, inR, List.contains_cons, List.contains_nil, Bool.or_eq_false_iff, beq_eq_false_iff_ne, Bool.and_eq_false_iff, Bool.or_eq_false_iff, decide_eq_false_iff_not] at hk ⊢
      (repeat' (first | exact trivial | omega | apply And.intro))))
    have i4 : ∀ k, (k ≠ 143 ∧ (k < 154 ∨ 156 < k) ∧ (k < 167 ∨ 169 < k) ∧ k ≠ 172) → ∀ x, sI μ4 k x = sI υ k x := fun k hk x => mf_I m1 (by
      simp only [List.contains_cons, List.contains_nil, Bool.or_eq_false_iff, beq_eq_false_iff_ne]
      (repeat' (first | exact trivial | omega | apply And.intro)))
    have j4 : ∀ k, (k ≠ 143 ∧ (k < 154 ∨ 156 < k) ∧ (k < 167 ∨ 169 < k) ∧ k ≠ 172) → ∀ x, sJ μ4 k x = sJ υ k x := fun k hk x => mf_J m1 (by
      simp only [List.contains_cons, List.contains_nil, Bool.or_eq_false_iff, beq_eq_false_iff_ne]
      (repeat' (first | exact trivial | omega | apply And.intro)))
    have kff4 : ∀ x k j, kff μ4 x k j = kff υ x k j := fun x k j => by
      simp only [kff]
      rw [i4 165 (by omega), i4 176 (by omega)]
    have kpt4 : ∀ x k, kpt μ4 x k = kpt υ x k ∧ kpv μ4 x k = kpv υ x k := fun x k => by
      simp only [kpt, kpv]
      rw [i4 163 (by omega), i4 173 (by omega), j4 174 (by omega)]
      exact ⟨rfl, rfl⟩
    have e175 : sF μ4 175 = sF υ 175 := mf_F m1 rfl
    have e177 : sF μ4 177 = sF υ 177 := mf_F m1 rfl
    have KX : KLx μ4 (fun x => wts μ1 x ∨ x = d) := by
      obtain ⟨q1, q2, q3, q4⟩ := u3
      refine ⟨by rw [e175]; exact q1, by rw [e177]; exact q2, fun x hx => ?_, fun x y hx hy ne => ?_⟩
      · rw [i4 163 (by omega), i4 164 (by omega), i4 165 (by omega), i4 166 (by omega), e175, e177]
        exact q3 x hx
      · rw [i4 163 (by omega), i4 164 (by omega), i4 165 (by omega), i4 166 (by omega), i4 163 (by omega), i4 164 (by omega), i4 165 (by omega), i4 166 (by omega)]
        exact q4 x y hx hy ne
    obtain ⟨E1, E2, E3⟩ := ME_lay (τ := t) (τm := μ4) M1 g2.2.2 fr frm (fun x x0 => by rw [mf_I t2 rfl]; exact x2 x x0) (fun x x0 => by rw [mf_I t2 rfl]; exact x3 x x0) (fun x x0 => by rw [mf_I t2 rfl]; exact x4 x x0) (fun x x0 => by rw [mf_I t2 rfl]; exact x5 x x0) (by rw [mf_F t2 rfl]; exact x6) (by rw [mf_F t2 rfl]; exact x7) m2 (by rw [m3, mf_F u2 (lwK_f (by omega))]) (fun x x0 => by rw [m4 x x0, mf_I u2 (lwK_f (by omega))]) m5 (fun x x0 => by rw [i4 164 (by omega)]; exact u4 x x0) (fun x x0 => by rw [i4 166 (by omega)]; exact u5 x x0) (fun x x0 => by rw [m6 x x0, mf_I u2 (lwK_f (by omega))]) (fun x x0 => by rw [m7 x x0, mf_I u2 (lwK_f (by omega))]) (fun x x0 => by rw [m8 x x0, mf_I u2 (lwK_f (by omega))]) (fun x wx => ⟨fun k j h0 h1 hj => by rw [kff4]; exact (u6 x wx).1 k j h0 h1 hj, fun i h0 h1 => by
        rw [(kpt4 x i).1, (kpt4 x i).2]; exact (u6 x wx).2 i h0 h1⟩) (fun k h0 h1 => by
        rw [kff4, kff4]
        exact ⟨fun j hj n3 n5 => by rw [kff4]; exact (u7 k h0 h1).1 j hj n3 n5, (u7 k h0 h1).2⟩) (fun i h0 h1 => by
        rw [(kpt4 d i).1, (kpt4 d i).2]; exact u8 i h0 h1) KX
    have V4 : SV e w t μ4 := SV_y g2.2.1 fr frm (by rw [mf_F t2 rfl, mf_F x1 rfl]; exact CL_0 H)
    have G4 : GV w t μ4 n := ⟨t3, by rw [mf_F m1 rfl, mf_F u2 (lwK_f (by omega))]; exact g3, A2, Int32.le_trans n1 (by decide), fun k k0 k1 => by
      rw [(t4 k k0 k1).1, (t4 k k0 k1).2, s7, s8, mf_I m1 rfl, mf_J m1 rfl, mf_I u2 (lwK_f (by omega)), mf_J u2 (lwK_f (by omega))]
      exact g4 k k0 k1⟩
    have f2 : ∀ k, (328 ≤ k ∧ k ≤ 331) → sI t k c = sI σ k c := fun k hk => mf_I fr (yX_f (by omega))
    have mr : ∀ k j, j < 10 → mff μ4 k j = mff μ1 k j := fun k j hj => mf_I frm (yM_f (by omega))
    refine toRes_2 E GF RA (c := c) (m := sF μ4 154) ⟨E1, V4, E2⟩ G4 n1 (by rw [mf_F t2 rfl, mf_F x1 rfl]; exact hF) rfl ?_ cc.2.1 cc.2.2.1 ?_
    · rw [f2 329 (by omega), f2 330 (by omega), f2 331 (by omega)]
      show _ = (_, _, _, mff μ4 (sF μ4 154) 5, mff μ4 (sF μ4 154) 6, mff μ4 (sF μ4 154) 7)
      rw [mr _ 5 (by omega), mr _ 6 (by omega), mr _ 7 (by omega)]
    · rw [f2 328 (by omega)]
      show _ ∨ (_ ∧ mff μ4 (sF μ4 154) 0 = 3)
      have := mr (sF μ4 154) 0 (by omega)
      rw [this]
      show (_ ∧ mff μ4 (sF μ4 154) 0 = 2) ∨ _
      rw [this]
      exact E3
