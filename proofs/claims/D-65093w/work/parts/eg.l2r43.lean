/-! LAYER 2: step rules: FUNCTION, CLOSE -/
/-- a capture of the function that runs: where it lies -/
theorem cap_S2 {e : EV} {w : WD} {xf : Int32 → List Int32} {c d : Int32} {rest : PL2} {f : Int32} {fl : List Int32} {ρ : List Int32} {m : Int32} {g p q F n : Int32} {σ μ : mS} (S : ST e w xf c d rest f fl ρ m g p q F n σ μ) {k : Int32} (k0 : 0 ≤ k) (hk : ∀ b' m', eK e g b' m' → k < m') : (sI σ 231 (sI σ 223 (sI σ 343 f) + k), sI μ 50 (sI μ 46 (sI μ 145 (n - 1)) + k)) ∈ wB w ∧ (sI σ 343 f, sI μ 145 (n - 1)) ∈ wF w ∧ (0 ≤ sI σ 343 f ∧ sI σ 343 f < 4000) ∧ (0 ≤ sI σ 223 (sI σ 343 f) + k ∧ sI σ 223 (sI σ 343 f) + k < sF σ 232 ∧ sI σ 223 (sI σ 343 f) + k < 12000) ∧ (0 ≤ sI μ 145 (n - 1) ∧ sI μ 145 (n - 1) < 4100) ∧ (0 ≤ sI μ 46 (sI μ 145 (n - 1)) + k ∧ sI μ 46 (sI μ 145 (n - 1)) + k < sF μ 52 ∧ sI μ 46 (sI μ 145 (n - 1)) + k < 12000) := by
  obtain ⟨⟨⟨H, T⟩, a1, a2, a3, a4, a5⟩, s1, s2⟩ := S
  obtain ⟨H1, V, hf, hk0, hB, FCx, FLx⟩ := H
  obtain ⟨c1, c2, c3, c4, c5, c6, _⟩ := FCx
  rw [a5] at c4
  have R := H1.1.1
  obtain ⟨W, SS, _, ⟨⟨fx, F1⟩, F2, F3, F4⟩, _⟩ := R
  have ma : sI σ 343 f ∈ (wF w).map Prod.fst := List.mem_map.mpr ⟨_, c4, rfl⟩
  have mb : mff μ (n - 1) 1 ∈ (wF w).map Prod.snd := List.mem_map.mpr ⟨_, c4, rfl⟩
  have ra := F1.1.2.2.2.2.1 _ (List.mem_append_left _ ma)
  have rb := F2.1.2.2.2.2.2.1 _ mb
  have la := lay_le F1.2 (by decide)
  have lx := la.2.2 _ ma
  obtain ⟨g1, g2, g3, g4, g5⟩ := F4 _ _ c4
  have kk : k < sI σ 224 (sI σ 343 f) := by
    rcases g4 with ⟨_, _, K⟩ | ⟨_, c', d', hcd, h222, _⟩
    · rw [← c5, a1] at K
      exact hk _ _ K
    · obtain ⟨fcs, _, _, r, _⟩ := H1.2.2.2.2.1.2.2.1
      have rc := r c' (List.mem_append_right _ (List.mem_map.mpr ⟨_, hcd, rfl⟩))
      have c60 := c6.1
      rw [c5, h222] at c60
      exfalso; clear c6; lia
  have n0 := lx.2.2.2
  have M1 : sF μ 52 ≤ 12000 := F2.2.2.2
  have n1 := fj_5 lx.1 n0 lx.2.1 lx.2.2.1 la.2.1
  have x1 := fj_1 lx.1 k0 kk lx.2.2.1 la.2.1 lx.2.1
  have x2 := fj_1 g2.1 k0 kk g3 M1 (fi_2 g2.1 n0 g2.2 n1)
  exact ⟨g5 k k0 kk, c4, ra, ⟨x1.1, x1.2, Int32.lt_of_lt_of_le x1.2 la.2.1⟩, ⟨Int32.le_trans (by decide) rb.1, by have := rb.2; show mff μ (n - 1) 1 < 4100; lia⟩, ⟨x2.1, x2.2, Int32.lt_of_lt_of_le x2.2 M1⟩⟩
/-- what a function captures: a box that a register holds, or what the function that runs has captured -/
def capC (e : EV) (g : Int32) (ρ : List Int32) (s x : Int32) : Prop := (∃ (j : Nat) (r : Int32), j < ρ.length ∧ ρ.getD j 0 = -2 - r ∧ 0 ≤ r ∧ r ≤ 2500 ∧ s = r ∧ x / 2 = Int32.ofNat j ∧ x - x / 2 * 2 = 0) ∨ (∃ u, 0 ≤ u ∧ u ≤ 12000 ∧ (∀ b' m', eK e g b' m' → u < m') ∧ s = -1 - u ∧ x / 2 = u ∧ ¬ x - x / 2 * 2 = 0)
theorem cu_1 {u : Int32} (h0 : 0 ≤ u) (h1 : u ≤ 12000) : (-1 : Int32) - u < 0 ∧ (-1 : Int32) - (-1 - u) = u := ⟨by lia, by lia⟩
theorem cu_2 {g : Int32} (h0 : 0 ≤ g) (h1 : g < 5400) : (0 ≤ g + 1 ∧ g + 1 < 5401) ∧ g < 5401 := ⟨⟨by lia, by lia⟩, by lia⟩
theorem cw_0 {cnt : Int32} (c0 : 0 ≤ cnt) (c1 : cnt ≤ 12000) : 0 ≤ cnt.toInt ∧ cnt.toInt ≤ 12000 := ⟨tI_le.mp c0, tI_le.mp c1⟩
/-- what is read for a capture, on both sides -/
def capR (σ μ : mS) (f n : Int32) (w : WD) (s x a b : Int32) : Prop := (a, b) ∈ wB w ∧ ((¬ s < 0 ∧ 0 ≤ s ∧ s < sI σ 349 f ∧ xv σ f s = Int32.toInt64 a ∧ x - x / 2 * 2 = 0 ∧ (0 ≤ mff μ (n - 1) 3 + x / 2 ∧ mff μ (n - 1) 3 + x / 2 < 500000) ∧ sJ μ 142 (mff μ (n - 1) 3 + x / 2) = Int32.toInt64 b) ∨ (s < 0 ∧ ¬ x - x / 2 * 2 = 0 ∧ -1 - s = x / 2 ∧ (sI σ 343 f, sI μ 145 (n - 1)) ∈ wF w ∧ (0 ≤ sI σ 343 f ∧ sI σ 343 f < 4000) ∧ (0 ≤ sI σ 223 (sI σ 343 f) + x / 2 ∧ sI σ 223 (sI σ 343 f) + x / 2 < sF σ 232 ∧ sI σ 223 (sI σ 343 f) + x / 2 < 12000) ∧ (0 ≤ sI μ 145 (n - 1) ∧ sI μ 145 (n - 1) < 4100) ∧ (0 ≤ sI μ 46 (sI μ 145 (n - 1)) + x / 2 ∧ sI μ 46 (sI μ 145 (n - 1)) + x / 2 < sF μ 52 ∧ sI μ 46 (sI μ 145 (n - 1)) + x / 2 < 12000) ∧ sI σ 231 (sI σ 223 (sI σ 343 f) + x / 2) = a ∧ sI μ 50 (sI μ 46 (sI μ 145 (n - 1)) + x / 2) = b))
theorem capR_of {e : EV} {w : WD} {xf : Int32 → List Int32} {c d : Int32} {rest : PL2} {f : Int32} {fl : List Int32} {ρ : List Int32} {g p q F n : Int32} {σ μ : mS} (S : ST e w xf c d rest f fl ρ (-1) g p q F n σ μ) (z : zk e g ρ) {s x : Int32} (h : capC e g ρ s x) : ∃ a b, capR σ μ f n w s x a b := by
  rcases h with ⟨j, r, hj, e1, r0, r1, rfl, e2, e3⟩ | ⟨u, u0, u1, hu, rfl, e2, e3⟩
  · obtain ⟨h1, h2, h3, h4, h5⟩ := PT_at S.1 z.1
    have bl := (h5 j (by omega) 0 (by omega)).1
    have rv := h1 j hj
    rw [e1] at rv
    obtain ⟨a, b, hab, x1, x2, m1, m2⟩ := RV_box rv r0 r1
    have rR : s < sI (eσ e) 261 g := by
      have := z.2 (ρ.getD j 0) (by rw [List.getD_eq_getElem?_getD, List.getElem?_eq_getElem hj]; exact List.getElem_mem hj)
      rw [e1, dc_b r0 (by lia)] at this
      exact this
    refine ⟨a, b, hab, .inl ⟨Int32.not_lt.mpr r0, r0, Int32.lt_of_lt_of_le rR (PT_k S.1 z).2.2.2.2.1.1, x2, e3, ?_, ?_⟩⟩
    · rw [e2]; exact bl
    · rw [e2]; exact m2
  · obtain ⟨c1, c2, c3, c4, c5, c6⟩ := cap_S2 S u0 hu
    have cu := cu_1 u0 u1
    exact ⟨_, _, c1, .inr ⟨cu.1, e3, by rw [cu.2, e2], c2, c3, by rw [e2]; exact c4, c5, by rw [e2]; exact c6, by rw [e2], by rw [e2]⟩⟩
theorem VV_fu {w : WD} {a b : Int32} (h : (a, b) ∈ wF w) : VV w 6 (Int32.toInt64 a) 5 (Int32.toInt64 b) := .inr (.inr (.inr (.inr (.inr (.inr (.inl ⟨rfl, rfl, a, b, rfl, rfl, .inl h⟩))))))
def fXx (k : Nat) : Bool := fX k || k == 231
def fMm (k : Nat) : Bool := fM k || k == 50
theorem fXx_f {k : Nat} (h : k < 194 ∨ 232 < k ∨ (195 ≤ k ∧ k ≤ 221)) : fXx k = false := by
  rw [fXx, fX_f (by omega), Bool.false_or]
  exact beq_eq_false_iff_ne.mpr (by omega)
theorem fMm_f {k : Nat} (h : k < 18 ∨ 52 < k ∨ (19 ≤ k ∧ k ≤ 43) ∨ k = 51) : fMm k = false := by
  rw [fMm, fM_f (by omega), Bool.false_or]
  exact beq_eq_false_iff_ne.mpr (by omega)
theorem x231_f {σ τ υ : mS} (h : m_fr fX σ τ) (h' : m_fr (fun k => k == 231) τ υ) : m_fr fXx σ υ := mf_tr (mf_mono h (fun _ hk => (Bool.or_eq_false_iff.mp hk).1)) (mf_mono h' (fun _ hk => (Bool.or_eq_false_iff.mp hk).2))
theorem m50_f {σ τ υ : mS} (h : m_fr fM σ τ) (h' : m_fr (fun k => k == 50) τ υ) : m_fr fMm σ υ := mf_tr (mf_mono h (fun _ hk => (Bool.or_eq_false_iff.mp hk).1)) (mf_mono h' (fun _ hk => (Bool.or_eq_false_iff.mp hk).2))
/-- a function is made -/
theorem fun_S {e : EV} {w : WD} {xf : Int32 → List Int32} {c d : Int32} {rest : PL2} {f : Int32} {fl : List Int32} {ρ : List Int32} {g p q F n : Int32} {σ μ : mS} {g2 b2 cnt r : Int32} (E : EVok e) (EK : KOK e) (S : ST e w xf c d rest f fl ρ (-1) g p q F n σ μ) (z : zk e g ρ) (L : LE σ (mff μ) f (n - 1)) (hK : eK e g2 b2 cnt) (c0 : 0 ≤ cnt) (c1 : cnt ≤ 12000) (hcx : sI (eσ e) 265 (g2 + 1) - sI (eσ e) 265 g2 = cnt) (hcm : sI (eμ e) 81 b2 = cnt) (hcap : ∀ k, 0 ≤ k → k < cnt → (0 ≤ sI (eσ e) 265 g2 + k ∧ sI (eσ e) 265 g2 + k < 220000) ∧ (0 ≤ sI (eμ e) 80 b2 + k ∧ sI (eμ e) 80 b2 + k < 240000) ∧ capC e g ρ (sI (eσ e) 266 (sI (eσ e) 265 g2 + k)) (sI (eμ e) 83 (sI (eμ e) 80 b2 + k))) : (∃ a b τ τm, xx6_function (eN e) σ r g2 = bd (xx6_set (eN e) τ r 6 (Int32.toInt64 a)) (fun z3 => some (.ok z3)) ∧ mm_close (eN e) μ (n - 1) (mff μ (n - 1) 3) b2 = bd (mm_push (eN e) τm 5 (Int32.toInt64 b)) (fun z3 => some z3) ∧ ST e (wAddF w a b) xf c d rest f fl ρ (-1) g p q F n τ τm) ∨ UO e w xf c d rest σ μ (fun z => z) (xx6_function (eN e) σ r g2) (mm_close (eN e) μ (n - 1) (mff μ (n - 1) 3) b2) := by
  obtain ⟨k1, k2, _⟩ := EK _ _ _ hK
  have g21 := cu_2 k1.1 k1.2
  have V := PT_V S.1
  have f01 := (PT_N S.1).1
  have k01 := (PT_N S.1).2.1
  have x265 : ∀ i, σ.2.2.1 265 i.toNatClampNeg = sI (eσ e) 265 i := fun i => SV_cx V (by omega) i
  have m81 : ∀ i, μ.2.2.1 81 i.toNatClampNeg = sI (eμ e) 81 i := fun i => SV_cm V (by omega) i
  rw [xx6_function, gd_in (by decide) g21.1.1 g21.1.2, gd_in (by decide) k1.1 g21.2, x265, x265, hcx, lt, mm_close, gd_in (by decide) k2.1 k2.2, m81, hcm]
  obtain ⟨ab, hab⟩ := Classical.axiomOfChoice (r := fun (k : Int32) (ab : Int32 × Int32) => 0 ≤ k → k < cnt → capR σ μ f n w (sI (eσ e) 266 (sI (eσ e) 265 g2 + k)) (sI (eμ e) 83 (sI (eμ e) 80 b2 + k)) ab.1 ab.2) (fun k => by
    by_cases hk : 0 ≤ k ∧ k < cnt
    · obtain ⟨a, b, h⟩ := capR_of S z (hcap k hk.1 hk.2).2.2
      exact ⟨(a, b), fun _ _ => h⟩
    · exact ⟨(0, 0), fun h0 h1 => absurd ⟨h0, h1⟩ hk⟩)
  rcases function_h (N := eN e) (gx := g2) (gm := b2) (n := cnt) S.1.1.1.1.1.1 c0 c1 with ⟨o1, o2⟩ | ⟨a, b, υ, υm, o1, o2, a0, b0, nw, fr, frm, ⟨s1, s2, s3, s4, s5, s6⟩, i1, i2, R⟩
  · right
    refine room_UO (PT_UK S.1 L) (by rw [o1]; rfl) (fun μ' hb => ⟨μ', ?_, mf_rfl⟩)
    rw [o2, bd_bd, hb, bd_so, bd_so, if_neg (show ¬ (0 : Int32) ≤ -1 from by decide)]
  · left
    have hb0 : 0 ≤ b := Int32.le_trans (by decide) b0.1
    have hb1 : b < 4100 := Int32.lt_trans b0.2 (by decide)
    obtain ⟨t223, t46⟩ := fun_223 S.1.1.1.1.1.1 c0 c1 o1 o2 hb0
    have top0 : 0 ≤ sF σ 232 := by rw [s4]; exact s5
    have topc : sF σ 232 + cnt ≤ 12000 := by rw [s4]; exact s6
    have m52 : sF μ 52 ≤ 12000 := by
      have := S.1.1.1.1.1.1.2.2.2.1.2.1.2.2.2
      exact this
    have top1 : sF σ 232 ≤ 12000 := by rw [s4]; exact m52
    have u265 : sI υ 265 g2 = sI (eσ e) 265 g2 := (mf_I fr (fX_f (by omega))).trans (SV_cx V (by omega) _)
    have u266 : ∀ i, sI υ 266 i = sI (eσ e) 266 i := fun i => (mf_I fr (fX_f (by omega))).trans (SV_cx V (by omega) _)
    have v80 : sI υm 80 b2 = sI (eμ e) 80 b2 := (mf_I frm (fM_f (by omega))).trans (SV_cm V (by omega) _)
    have v83 : ∀ i, sI υm 83 i = sI (eμ e) 83 i := fun i => (mf_I frm (fM_f (by omega))).trans (SV_cm V (by omega) _)
    have v81 : sI υm 81 b2 = cnt := (mf_I frm (fM_f (by omega))).trans ((SV_cm V (by omega) _).trans hcm)
    have cb := cw_0 c0 c1
    obtain ⟨υ', x1, x2, x3, x4⟩ := cap_x (N := eN e) (σ := υ) (r := r) (body := g2) (cnt := cnt) (h := a) (top := sF σ 232) (bf := fun k => (ab k).1) k1.1 g21.2 a0.1 a0.2 c0 c1 top0 top1 topc s2 (fun k i0 i1 => by
      have hc := hcap k i0 i1
      rw [u265, u266]
      refine ⟨hc.1, fun τ ft h231 => ?_⟩
      obtain ⟨_, rr⟩ := hab k i0 i1
      have ff := x231_f fr ft
      rcases rr with ⟨r1, r2, r3, r4, _⟩ | ⟨r1, _, r3, r4, r5, r6, _, _, r9, _⟩
      · refine .inr ⟨r1, ?_⟩
        rw [(rd_fr S ff (fXx_f (by omega)) (fXx_f (by omega)) (fXx_f (by omega)) r2 r3).2, r4]
      · refine .inl ⟨r1, ?_⟩
        have e411 : τ.1 411 = f := (mf_F ff (k := 411) (fXx_f (by omega))).trans S.2.2
        have e343 : τ.2.2.1 343 f.toNatClampNeg = sI σ 343 f := mf_I ff (k := 343) (fXx_f (by omega))
        have ne : sI σ 343 f ≠ a := fun q => nw.1 (by rw [← q]; exact List.mem_map_of_mem (f := Prod.fst) r4)
        have e223 : τ.2.2.1 223 (sI σ 343 f).toNatClampNeg = sI σ 223 (sI σ 343 f) := (mf_I ft (k := 223) rfl).trans (t223 _ r5.1 ne)
        rw [xx6_captured, e411, gd_in (by decide) f01.1 f01.2, e343, gd_in (by decide) r5.1 r5.2, e223, r3, gd_in (by decide) r6.1 r6.2.2]
        have e231 : τ.2.2.1 231 (sI σ 223 (sI σ 343 f) + sI (eμ e) 83 (sI (eμ e) 80 b2 + k) / 2).toNatClampNeg = (ab k).1 := (h231 _ r6.1 r6.2.1).trans ((mf_I fr (fX_f (by omega))).trans r9)
        rw [e231]) (eN e) 0 (by decide) c0 (by rw [show (0 : Int32).toInt = 0 from rfl]; have := E.1; omega) υ mf_rfl (fun k i0 i1 => absurd (Int32.lt_of_le_of_lt i0 i1) Int32.lt_irrefl) (fun _ _ _ => rfl)
    obtain ⟨υm', y1, y2, y3, y4⟩ := cap_m (N := eN e) (σ := υm) (k1 := n - 1) (base := mff μ (n - 1) 3) (body := b2) (cnt := cnt) (h := b) (top := sF μ 52) (bf := fun k => (ab k).2) k2.1 k2.2 hb0 hb1 c0 c1 s5 m52 s6 v81 s3 (fun k i0 i1 => by
      have hc := hcap k i0 i1
      rw [v80, v83]
      refine ⟨hc.2.1, fun τ ft h50 => ?_⟩
      obtain ⟨_, rr⟩ := hab k i0 i1
      have e145 : sI υm 145 (n - 1) = sI μ 145 (n - 1) := mf_I frm (fM_f (by omega))
      rcases rr with ⟨_, _, _, _, r5, r6, r7⟩ | ⟨_, r2, _, r4, _, _, r7, r8, _, r10⟩
      · exact .inl ⟨r5, r6, (mf_J frm (fM_f (by omega))).trans r7⟩
      · have ne : sI μ 145 (n - 1) ≠ b := fun q => nw.2 (by rw [← q]; exact List.mem_map_of_mem (f := Prod.snd) r4)
        have e46 : sI υm 46 (sI μ 145 (n - 1)) = sI μ 46 (sI μ 145 (n - 1)) := t46 _ r7.1 ne
        refine .inr ⟨r2, k01, by rw [e145]; exact r7, by rw [e145, e46]; exact ⟨r8.1, r8.2.2⟩, ?_⟩
        rw [e145, e46]
        exact (h50 _ r8.1 r8.2.1).trans ((mf_I frm (fM_f (by omega))).trans r10)) (eN e) 0 (by decide) c0 (by rw [show (0 : Int32).toInt = 0 from rfl]; have := E.1; omega) υm mf_rfl (fun k i0 i1 => absurd (Int32.lt_of_le_of_lt i0 i1) Int32.lt_irrefl) (fun _ _ _ => rfl)
    have fX' := x231_f fr x2
    have fM' := m50_f frm y2
    have RR := R υ' υm' x2 y2 (fun m m0 m1 => (x4 m m0 m1).trans (mf_I fr (fX_f (by omega)))) (fun m m0 m1 => (y4 m m0 m1).trans (mf_I frm (fM_f (by omega)))) (.inl ⟨k1.1, k2.1, hK⟩) (fun i i0 i1 => by
      rw [x3 i i0 i1, y3 i i0 i1]
      exact (hab i i0 i1).1)
    refine ⟨a, b, υ', υm', ?_, ?_, ST_hp S RR wAddF_le rfl rfl rfl ⟨fun m => mf_I fX' (fXx_f (by omega)), fun m => mf_I fX' (fXx_f (by omega)), fun x' y' hxy => ?_⟩ fX' fM' (fun k hk => fXx_f (by omega)) (fun k hk => fMm_f (by omega)) (fun k hk => ?_)⟩
    · rw [o1, bx_so]; exact x1
    · rw [o2, bd_so, if_pos hb0]; exact y1
    · have rg := RF_rng S.1.1.1.1.1.1.2.2.2.1 hxy
      exact (mf_I x2 (k := 222) rfl).trans (i1 x' rg.1 (fun q => nw.1 (by rw [← q]; exact List.mem_map_of_mem (f := Prod.fst) hxy)))
    · have := i2 (Int32.ofNat k) (oN_nn (by omega)) (fun q => by
        have e : (Int32.ofNat k).toInt = (k : Int) := tI_lit (by omega)
        have y1 := b0.1
        rw [tI_le] at y1
        have z64 : (64 : Int32).toInt = 64 := rfl
        rw [← q] at y1
        omega)
      simp only [sI] at this
      rw [oN_cl (by omega)] at this
      rw [← this]
      exact congrFun (y2.2.2.1 44 rfl) k
/-- FUNCTION, CLOSE -/
theorem r_function {e : EV} {w : WD} {xf : Int32 → List Int32} {c d : Int32} {rest : PL2} {f : Int32} {fl : List Int32} {ρ : List Int32} {g p q F n : Int32} {σ μ : mS} {M rk : Nat} {g2 b2 cnt r : Int32} (C : CXT e M F n rk) (A : PT e w xf c d rest f fl ρ (-1) g p q F n σ μ) (z : eZ e rk g p q ρ (-1)) (ho : opx e p 28) (ha : acm e q 22) (ln : lin e p q) (h1 : nx e (p + 1) = r) (h2 : nx e (p + 2) = g2) (hv : sI (eμ e) 71 q = b2) (hK : eK e g2 b2 cnt) (c0 : 0 ≤ cnt) (c1 : cnt ≤ 12000) (hcx : sI (eσ e) 265 (g2 + 1) - sI (eσ e) 265 g2 = cnt) (hcm : sI (eμ e) 81 b2 = cnt) (hcap : ∀ k, 0 ≤ k → k < cnt → (0 ≤ sI (eσ e) 265 g2 + k ∧ sI (eσ e) 265 g2 + k < 220000) ∧ (0 ≤ sI (eμ e) 80 b2 + k ∧ sI (eμ e) 80 b2 + k < 240000) ∧ capC e g ρ (sI (eσ e) 266 (sI (eσ e) 265 g2 + k)) (sI (eμ e) 83 (sI (eμ e) 80 b2 + k))) (ok : okr ρ r 1 (sI (eσ e) 261 g)) (L : lo e rk g (p + 3) (q + 1) (ρ ++ [r]) (-1)) : Good e (M + 3000) σ μ := by
  obtain ⟨E, _, Z, EK, _, G, _, _⟩ := id C
  have hx := PT_x A ho (fun s => rfl)
  have S := PT_s A 3
  have LL := PT_LE (k := 0) A ho ln 3
  have o := ops_1 ho.1.1 ho.1.2
  have e3 : mff (actP μ (n - 1) q) (n - 1) 3 = mff μ (n - 1) 3 := mf_I actP_fr rfl
  have hm := act_f A ha
  rw [af_22, act_g A ha, mf_22, act_b, more_b, hv, ← e3] at hm
  have h256 := fun i => xP_256 S.1 i
  obtain ⟨k1, xa, xl⟩ := rare_k (N := eN e) (k := 28) ho.1.1 ho.1.2 h256
  rw [sf_28, rare_s, k1, rf_28, xa, xl, gd_tt, gd_in (by decide) o.2.1.1 o.2.1.2, rare_b, h256 (p + 2), h1, h2] at hx
  clear k1 e3 h256
  generalize xP σ f p 3 = τ at hx S LL
  generalize actP μ (n - 1) q = τm at hm S LL
  have zk0 := zk_of Z z
  rcases fun_S (r := r) E EK S zk0 LL hK c0 c1 hcx hcm hcap with ⟨a, b, υ, υm, f1, f2, S2⟩ | U
  · have v : VV (wAddF w a b) 6 (Int32.toInt64 a) 5 (Int32.toInt64 b) := VV_fu (List.mem_append.mpr (.inr List.mem_cons_self))
    obtain ⟨p1, p2, p3⟩ := push_1 (N := eN e) (N' := eN e) S2 zk0 ok v
    refine Good_2 A (hx.trans ?_) (hm.trans ?_) (GK_lo G p3.1 L)
    · rw [f1, p1, bd_so]
    · rw [f2, p2, bd_so]
  · exact good_UO C A hx hm U S.1.2.2.2.2.1 S.1.2.2.2.2.2
