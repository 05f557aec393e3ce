/-! LAYER 2: a coroutine is resumed: what both sides do -/
theorem nbZ {v : Int32} (h : v = 0 ∨ v = 1) : vp_nar .boolean v = v := by rcases h with rfl | rfl <;> rfl
def rsmX (a c wr md rg wt : Int32) (σ : mS) : mS := md_pi (md_ai (md_ai (md_ai (md_ai (md_ai (md_ai (md_ai (md_pi σ 358 (sF σ 358 + 1)) 323 c.toNatClampNeg 2) 327 a.toNatClampNeg c) 328 a.toNatClampNeg wr) 329 a.toNatClampNeg md) 330 a.toNatClampNeg rg) 331 a.toNatClampNeg wt) 323 a.toNatClampNeg 1) 339 a
theorem resX_e {N : Nat} {T : ty_xx6_begin} {σ : mS} {a c wr md rg wt : Int32} (ho : sF σ 358 < 200) (a0 : 0 ≤ a) (a1 : a < 121) (h0 : sI σ 323 a = 0) (hn : sF σ 339 = c) (c0 : 0 ≤ c) (c1 : c < 121) (hw : wr = 0 ∨ wr = 1) : bxx6_resume N T σ a wr md rg wt = (if sI σ 324 a = 0 then bd (xx6_clearGives N (rsmX a c wr md rg wt σ)) (fun z19 => xx6_resume_b278 N T N a 0 z19) else bx (T.1 (md_ai (rsmX a c wr md rg wt σ) 324 a.toNatClampNeg 0) (sI σ 324 a) (sJ σ 325 a) 0 0 (-1)) (fun z23 => some (.ok z23))) := by
  have n2 : vp_nar .byte (2 : Int32) = 2 := nar_tg (by decide) (by decide)
  have n1 : vp_nar .byte (1 : Int32) = 1 := nar_tg (by decide) (by decide)
  have n0 : vp_nar .byte (0 : Int32) = 0 := nar_tg (by decide) (by decide)
  simp (disch := lia) only [bxx6_resume, lt, gd_in, if_pos, if_neg, ↓reduceIte, gd_z0, gd_z1, gd_tt, sF_fold, sG_fold, sI_fold, sJ_fold, sF_pi, sF_pl, sF_ai, sF_al, sG_pi, sG_pl, sG_ai, sG_al, sI_pi, sI_pl, sI_al, sI_ai1, sI_ai2, sJ_pi, sJ_pl, sJ_ai, sJ_al1, sJ_al2, Nat.reduceEqDiff, if_true, if_false, ne_eq, not_false_eq_true, ite_true, ite_false, open_x1 ho, bx, h0, hn, nbZ hw, n2, n1, n0, rsmX, xx6_resume_b342]
def rsmM (b d kd p wn th : Int32) (μ : mS) : mS := md_pi (md_ai (md_ai (md_ai (md_ai (md_ai (opM kd b p wn th μ) 156 d.toNatClampNeg 2) 156 b.toNatClampNeg 1) 160 b.toNatClampNeg d) 162 b.toNatClampNeg (sF μ 154 + 1)) 161 b.toNatClampNeg (sF μ 143)) 172 b
theorem opM_F {μ : mS} {kd fn to wn th : Int32} {k : Nat} (h1 : k ≠ 154) (h2 : k ≠ 155) : sF (opM kd fn to wn th μ) k = sF μ k := by
  simp only [opM, sF_pi, sF_pl, sF_ai, sF_al, sG_pi, sG_pl, sG_ai, sG_al, sI_pi, sI_pl, sI_al, sI_ai1, sI_ai2, sJ_pi, sJ_pl, sJ_ai, sJ_al1, sJ_al2, Nat.reduceEqDiff, if_true, if_false, ne_eq, not_false_eq_true, ite_true, ite_false, h1, h2]
theorem opM_I {μ : mS} {kd fn to wn th : Int32} {k : Nat} (h : k < 144 ∨ 153 < k) {i : Int32} : sI (opM kd fn to wn th μ) k i = sI μ k i := by
  simp only [opM, sI_pi]
  rw [sI_ai1 (by omega), sI_ai1 (by omega), sI_ai1 (by omega), sI_ai1 (by omega), sI_ai1 (by omega), sI_ai1 (by omega), sI_ai1 (by omega)]
theorem opM_J {μ : mS} {kd fn to wn th : Int32} {k : Nat} {i : Int32} : sJ (opM kd fn to wn th μ) k i = sJ μ k i := by
  simp only [opM, sF_pi, sF_pl, sF_ai, sF_al, sG_pi, sG_pl, sG_ai, sG_al, sI_pi, sI_pl, sI_al, sI_ai1, sI_ai2, sJ_pi, sJ_pl, sJ_ai, sJ_al1, sJ_al2, Nat.reduceEqDiff, if_true, if_false, ne_eq, not_false_eq_true, ite_true, ite_false]
theorem resM_e {N : Nat} {T : ty_call} {μ : mS} {b d kd p wn th : Int32} (b0 : 0 ≤ b) (b1 : b < 121) (h0 : sI μ 156 b = 0) (hd : sF μ 172 = d) (d0 : 0 ≤ d) (d1 : d < 121) (c0 : 0 ≤ sF μ 154) (c1 : sF μ 154 < 256) (k0 : 0 ≤ kd) (k1 : kd ≤ 8) : mb_goOn N T μ b kd p wn th = (if sI μ 159 b = 0 then bd (mm_push N (md_ai (rsmM b d kd p wn th μ) 159 b.toNatClampNeg 1) 5 (Int32.toInt64 (sI μ 158 b))) (fun z38 => mm_goOn_195 N T N b (sF μ 190) 0 z38) else mm_goOn_250 N T N b (sF μ 143) 0 (rsmM b d kd p wn th μ)) := by
  have n2 : vp_nar .byte (2 : Int32) = 2 := nar_tg (by decide) (by decide)
  have n1 : vp_nar .byte (1 : Int32) = 1 := nar_tg (by decide) (by decide)
  have nb : vp_nar .boolean (1 : Int32) = 1 := rfl
  have op := open_m (N := N) (μ := μ) (kd := kd) (fn := b) (to := p) (wn := wn) (th := th) c0 c1 k0 k1
  have o154 : sF (opM kd b p wn th μ) 154 = sF μ 154 + 1 := by simp only [opM, sF_pi, sF_pl, sF_ai, sF_al, sG_pi, sG_pl, sG_ai, sG_al, sI_pi, sI_pl, sI_al, sI_ai1, sI_ai2, sJ_pi, sJ_pl, sJ_ai, sJ_al1, sJ_al2, Nat.reduceEqDiff, if_true, if_false, ne_eq, not_false_eq_true, ite_true, ite_false]
  have o172 : sF (opM kd b p wn th μ) 172 = d := by rw [opM_F (by omega) (by omega)]; exact hd
  have o143 : sF (opM kd b p wn th μ) 143 = sF μ 143 := opM_F (by omega) (by omega)
  have o190 : sF (opM kd b p wn th μ) 190 = sF μ 190 := opM_F (by omega) (by omega)
  have o159 : sI (opM kd b p wn th μ) 159 b = sI μ 159 b := opM_I (by omega)
  have o158 : sI (opM kd b p wn th μ) 158 b = sI μ 158 b := opM_I (by omega)
  simp (disch := lia) only [mb_goOn, lt, gd_in, if_pos, if_neg, ↓reduceIte, gd_z0, gd_z1, gd_tt, sF_fold, sG_fold, sI_fold, sJ_fold, sF_pi, sF_pl, sF_ai, sF_al, sG_pi, sG_pl, sG_ai, sG_al, sI_pi, sI_pl, sI_al, sI_ai1, sI_ai2, sJ_pi, sJ_pl, sJ_ai, sJ_al1, sJ_al2, Nat.reduceEqDiff, if_true, if_false, ne_eq, not_false_eq_true, ite_true, ite_false, h0, op, bd, n2, n1, nb, o154, o172, o143, o190, o159, o158, rsmM]
theorem go195_lp {N : Nat} {T : ty_call} {σ : mS} {n b p : Int32} (p0 : 0 ≤ p) (p1 : p ≤ 480000) (n0 : 0 ≤ n) (n1 : n ≤ 145) (b0 : 0 ≤ b) (b1 : b < 121) (tt : ∀ k, 0 ≤ k → k < n → 0 ≤ sI σ 188 k ∧ sI σ 188 k ≤ 8) (j : Nat) (i : Int32) (i0 : 0 ≤ i) (i1 : i ≤ n) (hj : (n.toInt - i.toInt).toNat < j) : ∀ τ : mS, m_fr cM σ τ → sF τ 143 = p + i → wrM p i (sI σ 188) (sJ σ 189) σ τ → ∃ υ, mm_goOn_195 N T j b n i τ = T.1 υ (sI σ 161 b) n (-1) 4 ∧ m_fr cM σ υ ∧ sF υ 143 = p + n ∧ wrM p n (sI σ 188) (sJ σ 189) σ υ := by
  refine loop_up (lo := 0) (m := n) (fun j i => ∀ τ : mS, m_fr cM σ τ → sF τ 143 = p + i → wrM p i (sI σ 188) (sJ σ 189) σ τ → ∃ υ, mm_goOn_195 N T j b n i τ = T.1 υ (sI σ 161 b) n (-1) 4 ∧ m_fr cM σ υ ∧ sF υ 143 = p + n ∧ wrM p n (sI σ 188) (sJ σ 189) σ υ) ?_ j i i0 i1 hj
  clear hj i0 i1 i j
  intro j i i0 i1 ih τ fr f143 wm
  have e1 : sI τ 188 i = sI σ 188 i := mf_I fr rfl
  have e2 : sJ τ 189 i = sJ σ 189 i := mf_J fr rfl
  have e3 : sI τ 161 b = sI σ 161 b := mf_I fr rfl
  by_cases c : n ≤ i
  · have ek : i = n := by lia
    subst ek
    refine ⟨τ, ?_, fr, f143, wm⟩
    simp (disch := lia) only [mm_goOn_195, lt, gd_in, if_pos, if_neg, ↓reduceIte, gd_z0, gd_z1, gd_tt, sF_fold, sG_fold, sI_fold, sJ_fold, e3, bd_id]
  · have t := tt i (by lia) (by lia)
    have st : mm_goOn_195 N T (j + 1) b n i τ = mm_goOn_195 N T j b n (i + 1) (md_pi (md_al (md_ai τ 141 (p + i).toNatClampNeg (sI σ 188 i)) 142 (p + i).toNatClampNeg (sJ σ 189 i)) 143 (p + i + 1)) := by
      have pm := push_m (N := N) (μ := τ) (t := sI σ 188 i) (v := sJ σ 189 i) (by lia) (by lia) t.1 t.2
      rw [f143] at pm
      simp (disch := lia) only [mm_goOn_195, lt, gd_in, if_pos, if_neg, ↓reduceIte, gd_z0, gd_z1, gd_tt, sF_fold, sG_fold, sI_fold, sJ_fold, e1, e2, pm, bd]
    rw [st]
    exact ih (by lia) _ (mf_pi (mf_al (mf_ai fr rfl) rfl) rfl) (by simp only [sF_pi, sF_pl, sF_ai, sF_al, sG_pi, sG_pl, sG_ai, sG_al, sI_pi, sI_pl, sI_al, sI_ai1, sI_ai2, sJ_pi, sJ_pl, sJ_ai, sJ_al1, sJ_al2, Nat.reduceEqDiff, if_true, if_false, ne_eq, not_false_eq_true, ite_true, ite_false]; lia) (wr1_m (t := p + i + 1) wm p0 (by lia) (by lia) (by lia))
theorem go250_lp {N : Nat} {T : ty_call} {σ : mS} {n b p : Int32} (p0 : 0 ≤ p) (p1 : p ≤ 480000) (hn : sI σ 164 b = n) (n0 : 0 ≤ n) (pn : p + n ≤ 490000) (n1 : n ≤ 490000) (b0 : 0 ≤ b) (b1 : b < 121) (qq : 0 < n → 0 ≤ sI σ 163 b ∧ sI σ 163 b ≤ 500000 ∧ sI σ 163 b + n ≤ 500000) (tt : ∀ k, 0 ≤ k → k < n → 0 ≤ kpt σ b k ∧ kpt σ b k ≤ 8) (j : Nat) (i : Int32) (i0 : 0 ≤ i) (i1 : i ≤ n) (hj : (n.toInt - i.toInt).toNat < j) : ∀ τ : mS, m_fr cM σ τ → sF τ 143 = p + i → (∀ k, 0 ≤ k → k < i → sI τ 141 (p + k) = kpt σ b k ∧ sJ τ 142 (p + k) = kpv σ b k) → (∀ k, 0 ≤ k → k < p → sI τ 141 k = sI σ 141 k ∧ sJ τ 142 k = sJ σ 142 k) → ∃ υ, mm_goOn_250 N T j b p i τ = mm_goOn_310 N T N b p (sI σ 165 b) 0 υ ∧ m_fr cM σ υ ∧ sF υ 143 = p + n ∧ (∀ k, 0 ≤ k → k < n → sI υ 141 (p + k) = kpt σ b k ∧ sJ υ 142 (p + k) = kpv σ b k) ∧ (∀ k, 0 ≤ k → k < p → sI υ 141 k = sI σ 141 k ∧ sJ υ 142 k = sJ σ 142 k) := by
  refine loop_up (lo := 0) (m := n) (fun j i => ∀ τ : mS, m_fr cM σ τ → sF τ 143 = p + i → (∀ k, 0 ≤ k → k < i → sI τ 141 (p + k) = kpt σ b k ∧ sJ τ 142 (p + k) = kpv σ b k) → (∀ k, 0 ≤ k → k < p → sI τ 141 k = sI σ 141 k ∧ sJ τ 142 k = sJ σ 142 k) → ∃ υ, mm_goOn_250 N T j b p i τ = mm_goOn_310 N T N b p (sI σ 165 b) 0 υ ∧ m_fr cM σ υ ∧ sF υ 143 = p + n ∧ (∀ k, 0 ≤ k → k < n → sI υ 141 (p + k) = kpt σ b k ∧ sJ υ 142 (p + k) = kpv σ b k) ∧ (∀ k, 0 ≤ k → k < p → sI υ 141 k = sI σ 141 k ∧ sJ υ 142 k = sJ σ 142 k)) ?_ j i i0 i1 hj
  clear hj i0 i1 i j
  intro j i i0 i1 ih τ fr f143 hw hl
  have e1 : ∀ m, sI τ 173 m = sI σ 173 m := fun m => mf_I fr rfl
  have e2 : ∀ m, sJ τ 174 m = sJ σ 174 m := fun m => mf_J fr rfl
  have e3 : sI τ 163 b = sI σ 163 b := mf_I fr rfl
  have e4 : sI τ 164 b = n := by rw [mf_I fr rfl]; exact hn
  have e5 : sI τ 165 b = sI σ 165 b := mf_I fr rfl
  by_cases c : n ≤ i
  · have ek : i = n := by lia
    subst ek
    refine ⟨τ, ?_, fr, f143, hw, hl⟩
    simp (disch := lia) only [mm_goOn_250, lt, gd_in, if_pos, if_neg, ↓reduceIte, gd_z0, gd_z1, gd_tt, sF_fold, sG_fold, sI_fold, sJ_fold, e4, e5]
  · have t := tt i (by lia) (by lia)
    have q3 := qq (by lia)
    have r0 : 0 ≤ sI σ 163 b + i := by lia
    have r1 : sI σ 163 b + i < 500000 := by lia
    have st : mm_goOn_250 N T (j + 1) b p i τ = mm_goOn_250 N T j b p (i + 1) (md_pi (md_al (md_ai τ 141 (p + i).toNatClampNeg (kpt σ b i)) 142 (p + i).toNatClampNeg (kpv σ b i)) 143 (p + i + 1)) := by
      have pm := push_m (N := N) (μ := τ) (t := kpt σ b i) (v := kpv σ b i) (by lia) (by lia) t.1 t.2
      rw [f143] at pm
      have pm' : mm_push N τ (sI σ 173 (sI σ 163 b + i)) (sJ σ 174 (sI σ 163 b + i)) = some (md_pi (md_al (md_ai τ 141 (p + i).toNatClampNeg (kpt σ b i)) 142 (p + i).toNatClampNeg (kpv σ b i)) 143 (p + i + 1)) := pm
      simp (disch := lia) only [mm_goOn_250, lt, gd_in, if_pos, if_neg, ↓reduceIte, gd_z0, gd_z1, gd_tt, sF_fold, sG_fold, sI_fold, sJ_fold, e1, e2, e3, e4, pm', bd]
    rw [st]
    refine ih (by lia) _ (mf_pi (mf_al (mf_ai fr rfl) rfl) rfl) (by simp only [sF_pi, sF_pl, sF_ai, sF_al, sG_pi, sG_pl, sG_ai, sG_al, sI_pi, sI_pl, sI_al, sI_ai1, sI_ai2, sJ_pi, sJ_pl, sJ_ai, sJ_al1, sJ_al2, Nat.reduceEqDiff, if_true, if_false, ne_eq, not_false_eq_true, ite_true, ite_false]; lia) (fun k k0 k1 => ?_) (fun k k0 k1 => ?_)
    · simp only [sF_pi, sF_pl, sF_ai, sF_al, sG_pi, sG_pl, sG_ai, sG_al, sI_pi, sI_pl, sI_al, sI_ai1, sI_ai2, sJ_pi, sJ_pl, sJ_ai, sJ_al1, sJ_al2, Nat.reduceEqDiff, if_true, if_false, ne_eq, not_false_eq_true, ite_true, ite_false]
      rw [sI_ai (by lia) (by lia), sJ_al (by lia) (by lia)]
      by_cases z : k = i
      · subst z; rw [if_pos ⟨rfl, rfl⟩, if_pos ⟨rfl, rfl⟩]; exact ⟨rfl, rfl⟩
      · rw [if_neg (fun y => z (by have := y.2; lia)), if_neg (fun y => z (by have := y.2; lia))]
        simp only [sF_pi, sF_pl, sF_ai, sF_al, sG_pi, sG_pl, sG_ai, sG_al, sI_pi, sI_pl, sI_al, sI_ai1, sI_ai2, sJ_pi, sJ_pl, sJ_ai, sJ_al1, sJ_al2, Nat.reduceEqDiff, if_true, if_false, ne_eq, not_false_eq_true, ite_true, ite_false]
        exact hw k k0 (by lia)
    · simp only [sF_pi, sF_pl, sF_ai, sF_al, sG_pi, sG_pl, sG_ai, sG_al, sI_pi, sI_pl, sI_al, sI_ai1, sI_ai2, sJ_pi, sJ_pl, sJ_ai, sJ_al1, sJ_al2, Nat.reduceEqDiff, if_true, if_false, ne_eq, not_false_eq_true, ite_true, ite_false]
      rw [sI_ai (by lia) k0, sJ_al (by lia) k0, if_neg (fun y => by have := y.2; lia), if_neg (fun y => by have := y.2; lia)]
      simp only [sF_pi, sF_pl, sF_ai, sF_al, sG_pi, sG_pl, sG_ai, sG_al, sI_pi, sI_pl, sI_al, sI_ai1, sI_ai2, sJ_pi, sJ_pl, sJ_ai, sJ_al1, sJ_al2, Nat.reduceEqDiff, if_true, if_false, ne_eq, not_false_eq_true, ite_true, ite_false]
      exact hl k k0 k1
def roM (k : Nat) : Bool := inR 144 154 k
/-- one row of a call is laid back -/
def rowM (μ τ : mS) (v7 p : Int32) : mS := md_pi (md_ai (md_ai (md_ai (md_ai (md_ai (md_ai (md_ai (md_ai (md_ai (md_ai τ 144 (sF τ 154).toNatClampNeg (sI μ 176 v7)) 145 (sF τ 154).toNatClampNeg (sI μ 176 (v7 + 1))) 146 (sF τ 154).toNatClampNeg (sI μ 176 (v7 + 2))) 147 (sF τ 154).toNatClampNeg (sI μ 176 (v7 + 3) + p)) 148 (sF τ 154).toNatClampNeg (sI μ 176 (v7 + 4))) 149 (sF τ 154).toNatClampNeg (sI μ 176 (v7 + 5) + p)) 150 (sF τ 154).toNatClampNeg (sI μ 176 (v7 + 6))) 151 (sF τ 154).toNatClampNeg (sI μ 176 (v7 + 7))) 152 (sF τ 154).toNatClampNeg (sI μ 176 (v7 + 8))) 153 (sF τ 154).toNatClampNeg (sI μ 176 (v7 + 9))) 154 (sF τ 154 + 1)
theorem rowM_fr {μ τ : mS} {v7 p : Int32} : m_fr roM τ (rowM μ τ v7 p) := mf_pi (mf_ai (mf_ai (mf_ai (mf_ai (mf_ai (mf_ai (mf_ai (mf_ai (mf_ai (mf_ai mf_rfl rfl) rfl) rfl) rfl) rfl) rfl) rfl) rfl) rfl) rfl) rfl
theorem rowM_o {μ τ : mS} {v7 p k : Int32} (c0 : 0 ≤ sF τ 154) (k0 : 0 ≤ k) (ne : k ≠ sF τ 154) (j : Nat) : mff (rowM μ τ v7 p) k j = mff τ k j := by
  simp only [mff, rowM, sI_pi]
  rw [sI_ai c0 k0, if_neg (fun z => ne z.2), sI_ai c0 k0, if_neg (fun z => ne z.2), sI_ai c0 k0, if_neg (fun z => ne z.2), sI_ai c0 k0, if_neg (fun z => ne z.2), sI_ai c0 k0, if_neg (fun z => ne z.2), sI_ai c0 k0, if_neg (fun z => ne z.2), sI_ai c0 k0, if_neg (fun z => ne z.2), sI_ai c0 k0, if_neg (fun z => ne z.2), sI_ai c0 k0, if_neg (fun z => ne z.2), sI_ai c0 k0, if_neg (fun z => ne z.2)]
theorem rowM_s {μ τ : mS} {v7 p : Int32} (c0 : 0 ≤ sF τ 154) : (∀ j, j < 10 → j ≠ 3 → j ≠ 5 → mff (rowM μ τ v7 p) (sF τ 154) j = sI μ 176 (v7 + Int32.ofNat j)) ∧ mff (rowM μ τ v7 p) (sF τ 154) 3 = sI μ 176 (v7 + Int32.ofNat 3) + p ∧ mff (rowM μ τ v7 p) (sF τ 154) 5 = sI μ 176 (v7 + Int32.ofNat 5) + p := by
  refine ⟨fun j hj h3 h5 => ?_, ?_, ?_⟩
  · have : j = 0 ∨ j = 1 ∨ j = 2 ∨ j = 4 ∨ j = 6 ∨ j = 7 ∨ j = 8 ∨ j = 9 := by omega
    rcases this with rfl | rfl | rfl | rfl | rfl | rfl | rfl | rfl
    · rw [show v7 + Int32.ofNat 0 = v7 by show v7 + 0 = v7; lia]
      simp (disch := lia) only [mff, rowM, sF_pi, sF_pl, sF_ai, sF_al, sG_pi, sG_pl, sG_ai, sG_al, sI_pi, sI_pl, sI_al, sI_ai1, sI_ai2, sJ_pi, sJ_pl, sJ_ai, sJ_al1, sJ_al2, Nat.reduceEqDiff, if_true, if_false, ne_eq, not_false_eq_true, ite_true, ite_false, Nat.reduceAdd]
    all_goals
      simp (disch := lia) only [mff, rowM, sF_pi, sF_pl, sF_ai, sF_al, sG_pi, sG_pl, sG_ai, sG_al, sI_pi, sI_pl, sI_al, sI_ai1, sI_ai2, sJ_pi, sJ_pl, sJ_ai, sJ_al1, sJ_al2, Nat.reduceEqDiff, if_true, if_false, ne_eq, not_false_eq_true, ite_true, ite_false, Nat.reduceAdd]
      rfl
  · simp (disch := lia) only [mff, rowM, sF_pi, sF_pl, sF_ai, sF_al, sG_pi, sG_pl, sG_ai, sG_al, sI_pi, sI_pl, sI_al, sI_ai1, sI_ai2, sJ_pi, sJ_pl, sJ_ai, sJ_al1, sJ_al2, Nat.reduceEqDiff, if_true, if_false, ne_eq, not_false_eq_true, ite_true, ite_false, Nat.reduceAdd]
    rfl
  · simp (disch := lia) only [mff, rowM, sF_pi, sF_pl, sF_ai, sF_al, sG_pi, sG_pl, sG_ai, sG_al, sI_pi, sI_pl, sI_al, sI_ai1, sI_ai2, sJ_pi, sJ_pl, sJ_ai, sJ_al1, sJ_al2, Nat.reduceEqDiff, if_true, if_false, ne_eq, not_false_eq_true, ite_true, ite_false, Nat.reduceAdd]
    rfl
theorem go310_lp {N : Nat} {T : ty_call} {σ : mS} {n b p c1 r : Int32} (b0 : 0 ≤ b) (b1 : b < 121) (hn : sI σ 166 b = n) (n0 : 0 ≤ n) (n1 : n ≤ 250) (c0 : 0 ≤ c1) (cn : c1 + n ≤ 250) (cm : c1 ≤ 250) (hr : sI σ 165 b = r) (rr : 0 < n → 0 ≤ r ∧ r ≤ 5000 ∧ r + 10 * n ≤ 5000) (tk : ∀ k, 0 ≤ k → k < n → 0 ≤ kff σ b k 0 ∧ kff σ b k 0 ≤ 8) (h154 : sF σ 154 = c1) (j : Nat) (i : Int32) (i0 : 0 ≤ i) (i1 : i ≤ n) (hj : (n.toInt - i.toInt).toNat < j) : ∀ τ : mS, m_fr roM σ τ → sF τ 154 = c1 + i → (∀ k, 0 ≤ k → k < i → (∀ j, j < 10 → j ≠ 3 → j ≠ 5 → mff τ (c1 + k) j = kff σ b k j) ∧ mff τ (c1 + k) 3 = kff σ b k 3 + p ∧ mff τ (c1 + k) 5 = kff σ b k 5 + p) → (∀ k j, 0 ≤ k → k < c1 → mff τ k j = mff σ k j) → ∃ υ, mm_goOn_310 N T j b p (r + 10 * i) i τ = mm_finish N υ (sI σ 167 b + p) (sI σ 168 b) (sI σ 169 b) ∧ m_fr (fun k => roM k || [164, 166].contains k) σ υ ∧ (∀ x, 0 ≤ x → sI υ 164 x = if x = b then 0 else sI σ 164 x) ∧ (∀ x, 0 ≤ x → sI υ 166 x = if x = b then 0 else sI σ 166 x) ∧ sF υ 154 = c1 + n ∧ (∀ k, 0 ≤ k → k < n → (∀ j, j < 10 → j ≠ 3 → j ≠ 5 → mff υ (c1 + k) j = kff σ b k j) ∧ mff υ (c1 + k) 3 = kff σ b k 3 + p ∧ mff υ (c1 + k) 5 = kff σ b k 5 + p) ∧ (∀ k j, 0 ≤ k → k < c1 → j < 10 → mff υ k j = mff σ k j) := by
  refine loop_up (lo := 0) (m := n) (fun j i => ∀ τ : mS, m_fr roM σ τ → sF τ 154 = c1 + i → (∀ k, 0 ≤ k → k < i → (∀ j, j < 10 → j ≠ 3 → j ≠ 5 → mff τ (c1 + k) j = kff σ b k j) ∧ mff τ (c1 + k) 3 = kff σ b k 3 + p ∧ mff τ (c1 + k) 5 = kff σ b k 5 + p) → (∀ k j, 0 ≤ k → k < c1 → mff τ k j = mff σ k j) → ∃ υ, mm_goOn_310 N T j b p (r + 10 * i) i τ = mm_finish N υ (sI σ 167 b + p) (sI σ 168 b) (sI σ 169 b) ∧ m_fr (fun k => roM k || [164, 166].contains k) σ υ ∧ (∀ x, 0 ≤ x → sI υ 164 x = if x = b then 0 else sI σ 164 x) ∧ (∀ x, 0 ≤ x → sI υ 166 x = if x = b then 0 else sI σ 166 x) ∧ sF υ 154 = c1 + n ∧ (∀ k, 0 ≤ k → k < n → (∀ j, j < 10 → j ≠ 3 → j ≠ 5 → mff υ (c1 + k) j = kff σ b k j) ∧ mff υ (c1 + k) 3 = kff σ b k 3 + p ∧ mff υ (c1 + k) 5 = kff σ b k 5 + p) ∧ (∀ k j, 0 ≤ k → k < c1 → j < 10 → mff υ k j = mff σ k j)) ?_ j i i0 i1 hj
  clear hj i0 i1 i j
  intro j i i0 i1 ih τ fr f154 hw hl
  have q : ∀ k, (k < 144 ∨ 154 < k) → ∀ m, sI τ k m = sI σ k m := fun k hk m => mf_I fr (by simp only [roM, inR, Bool.and_eq_false_iff, decide_eq_false_iff_not]; omega)
  have e166 : sI τ 166 b = n := by rw [q 166 (by omega)]; exact hn
  by_cases c : n ≤ i
  · have ek : i = n := by lia
    subst ek
    have z0 : ∀ k m, (144 ≤ k ∧ k ≤ 153) → sI (md_ai (md_ai τ 164 b.toNatClampNeg 0) 166 b.toNatClampNeg 0) k m = sI τ k m := fun k m hk => by
      rw [sI_ai1 (by omega), sI_ai1 (by omega)]
    refine ⟨md_ai (md_ai τ 164 b.toNatClampNeg 0) 166 b.toNatClampNeg 0, ?_, mf_ai (mf_ai (mf_mono fr (fun k hk => (Bool.or_eq_false_iff.mp hk).1)) rfl) rfl, fun x x0 => ?_, fun x x0 => ?_, by simp only [sF_pi, sF_pl, sF_ai, sF_al, sG_pi, sG_pl, sG_ai, sG_al, sI_pi, sI_pl, sI_al, sI_ai1, sI_ai2, sJ_pi, sJ_pl, sJ_ai, sJ_al1, sJ_al2, Nat.reduceEqDiff, if_true, if_false, ne_eq, not_false_eq_true, ite_true, ite_false]; exact f154, fun k k0 k1 => ?_, fun k j k0 k1 hj => ?_⟩
    · have a7 := q 167 (by omega) b
      have a8 := q 168 (by omega) b
      have a9 := q 169 (by omega) b
      simp (disch := lia) only [mm_goOn_310, lt, gd_in, if_pos, if_neg, ↓reduceIte, gd_z0, gd_z1, gd_tt, sF_fold, sG_fold, sI_fold, sJ_fold, sF_pi, sF_pl, sF_ai, sF_al, sG_pi, sG_pl, sG_ai, sG_al, sI_pi, sI_pl, sI_al, sI_ai1, sI_ai2, sJ_pi, sJ_pl, sJ_ai, sJ_al1, sJ_al2, Nat.reduceEqDiff, if_true, if_false, ne_eq, not_false_eq_true, ite_true, ite_false, e166, a7, a8, a9, bd_id]
    · simp (disch := lia) only [sF_pi, sF_pl, sF_ai, sF_al, sG_pi, sG_pl, sG_ai, sG_al, sI_pi, sI_pl, sI_al, sI_ai1, sI_ai2, sJ_pi, sJ_pl, sJ_ai, sJ_al1, sJ_al2, Nat.reduceEqDiff, if_true, if_false, ne_eq, not_false_eq_true, ite_true, ite_false]
      rw [sI_ai b0 x0]
      by_cases z : x = b
      · rw [if_pos ⟨rfl, z⟩, if_pos z]
      · rw [if_neg (fun y => z y.2), if_neg z, q 164 (by omega)]
    · rw [sI_ai b0 x0]
      by_cases z : x = b
      · rw [if_pos ⟨rfl, z⟩, if_pos z]
      · rw [if_neg (fun y => z y.2), if_neg z]
        simp only [sF_pi, sF_pl, sF_ai, sF_al, sG_pi, sG_pl, sG_ai, sG_al, sI_pi, sI_pl, sI_al, sI_ai1, sI_ai2, sJ_pi, sJ_pl, sJ_ai, sJ_al1, sJ_al2, Nat.reduceEqDiff, if_true, if_false, ne_eq, not_false_eq_true, ite_true, ite_false]
        rw [q 166 (by omega)]
    · obtain ⟨w1, w3, w5⟩ := hw k k0 k1
      refine ⟨fun j hj h3 h5 => ?_, ?_, ?_⟩
      · rw [← w1 j hj h3 h5]; exact z0 _ _ (by omega)
      · rw [← w3]; exact z0 _ _ (by omega)
      · rw [← w5]; exact z0 _ _ (by omega)
    · rw [← hl k j k0 k1]; exact z0 _ _ (by omega)
  · have t := tk i i0 (by lia)
    obtain ⟨rr0, rr1, rr2⟩ := rr (by lia)
    have v0 : 0 ≤ r + 10 * i ∧ r + 10 * i + 9 < 5000 := ⟨by lia, by lia⟩
    have cl : 0 ≤ sF τ 154 ∧ sF τ 154 < 256 := ⟨by lia, by lia⟩
    have k00 : sI σ 176 (r + 10 * i) = kff σ b i 0 := by
      simp only [kff, hr]
      rw [show r + 10 * i + Int32.ofNat 0 = r + 10 * i by show r + 10 * i + 0 = _; lia]
    have nt : vp_nar .byte ((sI σ 176 (r + 10 * i)).toInt8.toInt32) = sI σ 176 (r + 10 * i) := by
      rw [k00]; exact nar_tag t.1 t.2
    have st : mm_goOn_310 N T (j + 1) b p (r + 10 * i) i τ = mm_goOn_310 N T j b p (r + 10 * (i + 1)) (i + 1) (rowM σ τ (r + 10 * i) p) := by
      have q6 : ∀ m, sI τ 176 m = sI σ 176 m := fun m => q 176 (by omega) m
      generalize hv : r + 10 * i = v at *
      have ev : v + 10 = r + 10 * (i + 1) := by lia
      clear tk t k00 hw hl ih
      simp (disch := lia) only [mm_goOn_310, lt, gd_in, if_pos, if_neg, ↓reduceIte, gd_z0, gd_z1, gd_tt, sF_fold, sG_fold, sI_fold, sJ_fold, sF_pi, sF_pl, sF_ai, sF_al, sG_pi, sG_pl, sG_ai, sG_al, sI_pi, sI_pl, sI_al, sI_ai1, sI_ai2, sJ_pi, sJ_pl, sJ_ai, sJ_al1, sJ_al2, Nat.reduceEqDiff, if_true, if_false, ne_eq, not_false_eq_true, ite_true, ite_false, e166, q6, nt, rowM, ev]
    rw [st]
    have ow := rowM_s (μ := σ) (τ := τ) (v7 := r + 10 * i) (p := p) cl.1
    have kr : ∀ j, kff σ b i j = sI σ 176 (r + 10 * i + Int32.ofNat j) := fun j => by simp only [kff, hr]
    refine ih (by lia) _ (mf_tr fr rowM_fr) (by simp only [rowM, sF_pi, sF_pl, sF_ai, sF_al, sG_pi, sG_pl, sG_ai, sG_al, sI_pi, sI_pl, sI_al, sI_ai1, sI_ai2, sJ_pi, sJ_pl, sJ_ai, sJ_al1, sJ_al2, Nat.reduceEqDiff, if_true, if_false, ne_eq, not_false_eq_true, ite_true, ite_false]; lia) (fun k k0 k1 => ?_) (fun k j k0 k1 => ?_)
    · by_cases z : k = i
      · subst z
        rw [← f154]
        exact ⟨fun j hj h3 h5 => by rw [ow.1 j hj h3 h5, kr], by rw [ow.2.1, kr], by rw [ow.2.2, kr]⟩
      · obtain ⟨w1, w3, w5⟩ := hw k k0 (by lia)
        have ne : c1 + k ≠ sF τ 154 := by lia
        exact ⟨fun j hj h3 h5 => by rw [rowM_o cl.1 (by lia) ne]; exact w1 j hj h3 h5, by rw [rowM_o cl.1 (by lia) ne]; exact w3, by rw [rowM_o cl.1 (by lia) ne]; exact w5⟩
    · rw [rowM_o cl.1 k0 (by lia)]; exact hl k j k0 k1
/-- the system gives the arguments on -/
theorem rs278_lp {N : Nat} {T : ty_xx6_begin} {σ : mS} {n a : Int32} (a0 : 0 ≤ a) (a1 : a < 121) (hn : sF σ 399 = n) (n0 : 0 ≤ n) (n1 : n ≤ 100) (tt : ∀ k, 0 ≤ k → k < n → 0 ≤ sI σ 397 k ∧ sI σ 397 k ≤ 8) (j : Nat) (i : Int32) (i0 : 0 ≤ i) (i1 : i ≤ n) (hj : (n.toInt - i.toInt).toNat < j) : ∀ τ : mS, m_fr vK σ τ → sF τ 402 = i → (∀ k, 0 ≤ k → k < i → sI τ 400 k = sI σ 397 k ∧ sJ τ 401 k = sJ σ 398 k) → ∃ υ, xx6_resume_b278 N T j a i τ = bx (xx6_give N υ (sI σ 332 a) (sI σ 333 a) (sI σ 334 a)) (fun z1 => some (.ok z1)) ∧ m_fr vK σ υ ∧ sF υ 402 = n ∧ (∀ k, 0 ≤ k → k < n → sI υ 400 k = sI σ 397 k ∧ sJ υ 401 k = sJ σ 398 k) := by
  refine loop_up (lo := 0) (m := n) (fun j i => ∀ τ : mS, m_fr vK σ τ → sF τ 402 = i → (∀ k, 0 ≤ k → k < i → sI τ 400 k = sI σ 397 k ∧ sJ τ 401 k = sJ σ 398 k) → ∃ υ, xx6_resume_b278 N T j a i τ = bx (xx6_give N υ (sI σ 332 a) (sI σ 333 a) (sI σ 334 a)) (fun z1 => some (.ok z1)) ∧ m_fr vK σ υ ∧ sF υ 402 = n ∧ (∀ k, 0 ≤ k → k < n → sI υ 400 k = sI σ 397 k ∧ sJ υ 401 k = sJ σ 398 k)) ?_ j i i0 i1 hj
  clear hj i0 i1 i j
  intro j i i0 i1 ih τ fr f402 hw
  have e1 : sI τ 397 i = sI σ 397 i := mf_I fr rfl
  have e2 : sJ τ 398 i = sJ σ 398 i := mf_J fr rfl
  have e3 : sF τ 399 = n := by rw [mf_F fr rfl]; exact hn
  have e4 : sI τ 332 a = sI σ 332 a := mf_I fr rfl
  have e5 : sI τ 333 a = sI σ 333 a := mf_I fr rfl
  have e6 : sI τ 334 a = sI σ 334 a := mf_I fr rfl
  by_cases c : n ≤ i
  · have ek : i = n := by lia
    subst ek
    refine ⟨τ, ?_, fr, f402, hw⟩
    simp (disch := lia) only [xx6_resume_b278, xx6_resume_b342, lt, gd_in, if_pos, if_neg, ↓reduceIte, gd_z0, gd_z1, gd_tt, sF_fold, sG_fold, sI_fold, sJ_fold, e3, e4, e5, e6]
  · have t := tt i i0 (by lia)
    obtain ⟨τ2, g1, g2, g3, g4, g5, g6⟩ := give1_x (N := N) (σ := τ) (n := i) (t := sI σ 397 i) (v := sJ σ 398 i) f402 i0 (by lia) t.1 t.2
    have st : xx6_resume_b278 N T (j + 1) a i τ = xx6_resume_b278 N T j a (i + 1) τ2 := by
      simp (disch := lia) only [xx6_resume_b278, lt, gd_in, if_pos, if_neg, ↓reduceIte, gd_z0, gd_z1, gd_tt, sF_fold, sG_fold, sI_fold, sJ_fold, e1, e2, e3, g1, bx]
    rw [st]
    refine ih (by lia) τ2 (mf_tr fr g2) g3 (fun k k0 k1 => ?_)
    by_cases z : k = i
    · subst z; exact ⟨g5, g6⟩
    · have := g4 k k0 (by lia)
      rw [this.1, this.2]; exact hw k k0 (by lia)
theorem cl_lt' {a b : Int32} (h0 : 0 ≤ a) (h : a < b) : a.toNatClampNeg < b.toNatClampNeg := by
  rw [tI_lt] at h
  rw [tI_le] at h0
  have z : (0 : Int32).toInt = 0 := rfl
  rw [tI_cl, tI_cl]; omega
/-- tags on the pile of a coroutine -/
theorem FL_tag {S : SR} {w : WD} {σ : mS} {ff : Int32 → Nat → Int32} {pt : Int32 → Int32} {pv : Int32 → Int64} {bt k0 B0 : Int32} (b0 : 0 ≤ B0) (k00 : 0 ≤ k0) : ∀ {fl : List Int32} {n : Int32} {ct : CT}, FL S w σ ff pt pv bt k0 B0 fl n ct → n ≤ 256 → ct.2.2.2.1 ≤ 480000 → ∀ i, B0 ≤ i → i < ct.2.2.2.1 → 0 ≤ pt i ∧ pt i ≤ 8
  | [], n, ct, h, _, _, i, i0, i1 => by
    have := h.2.1
    exfalso; lia
  | f :: fl, n, ct, h, hn, hc, i, i0, i1 => by
    obtain ⟨h1, ⟨h2, h2'⟩, h3, h4⟩ := h
    by_cases z : i < ff (n - 1) 5
    · exact FL_tag b0 k00 h4 (by lia) (by show ff (n - 1) 5 ≤ 480000; rcases h3 with ⟨_, _, _, _, s5, _⟩ | ⟨ρ, ⟨_, _, _, _, _, _, ⟨_, s7, s7'⟩, s8, _⟩, hpl, hρ, _⟩
                                          · lia
                                          · have lb := oN_bd hρ
                                            have : ff (n - 1) 5 ≤ 600000 := by lia
                                            lia) i i0 z
    · rcases h3 with ⟨s1, s2, s3, s4, s5, s6, s7, s8, _⟩ | ⟨ρ, ⟨c1, c2, c3, c4, c5, c6, ⟨c7, c7', c7''⟩, c8, c9, c10, c11, c12, c13⟩, hpl, hρ, _⟩
      · have : i = ff (n - 1) 5 := by lia
        rw [this, s8]; decide
      · have lb := oN_bd hρ
        have u6 : ff (n - 1) 5 ≤ 600000 := by lia
        by_cases z1 : i = ff (n - 1) 5
        · rw [z1, c12]; decide
        · by_cases z2 : i < ff (n - 1) 3
          · have g := RG_at c11 (j := (i - (ff (n - 1) 5 + 1)).toNatClampNeg) (by
              rw [rng_len]
              have := cl_lt' (a := i - (ff (n - 1) 5 + 1)) (b := ff (n - 1) 4) (by lia) (by lia)
              exact this)
            rw [oN_cl' (by lia), show ff (n - 1) 5 + 1 + (i - (ff (n - 1) 5 + 1)) = i by lia] at g
            rcases g with g | g | g | g | g
            · rw [g.2]; decide
            · have := VV_tag g.2; exact ⟨this.2.2.1, by lia⟩
            · rw [g.2.2.1]; decide
            · rw [g.2.1]; decide
            · have := VV_tag g.2.1; exact ⟨this.2.2.1, by lia⟩
          · have g := RG_at c10 (j := (i - ff (n - 1) 3).toNatClampNeg) (by
              have := cl_lt' (a := i - ff (n - 1) 3) (b := Int32.ofNat ρ.length) (by lia) (by lia)
              rw [i_cl (by omega)] at this
              exact this)
            rw [oN_cl' (by lia), show ff (n - 1) 3 + (i - ff (n - 1) 3) = i by lia] at g
            rcases g with g | g | g | g | g
            · rw [g.2]; decide
            · have := VV_tag g.2; exact ⟨this.2.2.1, by lia⟩
            · rw [g.2.2.1]; decide
            · rw [g.2.1]; decide
            · have := VV_tag g.2.1; exact ⟨this.2.2.1, by lia⟩
