/-! LAYER 2: functions of the house: the step of ipairs, getmetatable, setmetatable -/
theorem nm36_eq {N i i' : Nat} (hi : i < 46) (hi' : i' < 46) (he : xtx (x_st 512 i) = xtx (x_st 512 i')) : ∀ (n j : Nat) (μ : mS), j ≤ (xtx (x_st 512 i)).length → mm_putName_36 N n (Int32.ofNat (nmAt i + j)) μ = mm_putName_36 N n (Int32.ofNat (nmAt i' + j)) μ := by
  obtain ⟨a1, a2, a3, a4, a5⟩ := nm_ok i hi
  obtain ⟨b1, b2, b3, b4, b5⟩ := nm_ok i' hi'
  rw [← he] at b1 b2 b3 b4
  intro n
  induction n with
  | zero => intro j μ _; rfl
  | succ n ih =>
    intro j μ hj
    have kk : nmAt i + j < 306 := by omega
    have kk' : nmAt i' + j < 306 := by omega
    rw [mm_putName_36, mm_putName_36, nm_tB, nm_in kk, nm_in kk', oN_cl (by omega), oN_cl (by omega), nm_b kk, nm_b kk']
    simp only [gd]
    by_cases c : j < (xtx (x_st 512 i)).length
    · obtain ⟨c1, c2, c3⟩ := a1 j c
      obtain ⟨d1, d2, d3⟩ := b1 j c
      rw [c1, d1, if_neg c2, if_neg c2]
      congr 1
      funext z
      simp only [lt, oN_s]
      rw [show nmAt i + j + 1 = nmAt i + (j + 1) from by omega, show nmAt i' + j + 1 = nmAt i' + (j + 1) from by omega]
      exact ih (j + 1) z (by omega)
    · have ej : j = (xtx (x_st 512 i)).length := by omega
      rw [ej, a2, b2, if_pos rfl, if_pos rfl]
theorem bad_14 {N : Nat} (hN : BIG ≤ N) {μ : mS} {i : Int32} : mm_bad N μ i 14 = mm_bad N μ i 45 := by
  have hb : 46 < N := by have : (46 : Nat) < BIG := by decide
                         omega
  have e : ∀ z, mm_putName N z 14 = mm_putName N z 45 := fun z => by
    have e1 : mm_putName N z (Int32.ofNat 14) = mm_putName_36 N N (Int32.ofNat (nmAt 14)) z := nm4_lp hN (by decide) N 0 (by omega) (by omega)
    have e2 : mm_putName N z (Int32.ofNat 45) = mm_putName_36 N N (Int32.ofNat (nmAt 45)) z := nm4_lp hN (by decide) N 0 (by omega) (by omega)
    have e3 := nm36_eq (N := N) (i := 14) (i' := 45) (by decide) (by decide) (by decide +kernel) N 0 z (by omega)
    exact e1.trans (e3.trans e2.symm)
  simp only [mm_bad, e]
theorem isOf_14 {N : Nat} (hN : BIG ≤ N) {μ : mS} {i t : Int32} : mm_isOf N μ i t 14 = mm_isOf N μ i t 45 := by
  have e : ∀ z, mm_bad N z i 14 = mm_bad N z i 45 := fun z => bad_14 hN
  simp only [mm_isOf, e]
theorem lib_step {L : LQ} (E : EVok (lE L)) {w : WD} {σ μ : mS} (H : LC L w 0 σ μ) (hl : lB L = 45) : LO L w (xx8_plain (lNn L) σ 45) (mm_ofNumbers (lNn L) μ 45) := by
  have hl' : (45 : Int32) = Int32.ofNat (lB L) := by rw [hl]; rfl
  unfold xx8_plain mm_ofNumbers
  iterate 17 rw [if_neg (by decide)]
  iterate 12 rw [if_neg (by decide)]
  have e14a : mm_isOf (lNn L) μ 1 4 14 = mm_isOf (lNn L) μ 1 4 45 := isOf_14 (EV_N E)
  rw [if_pos rfl, e14a]
  refine (tab_L E H (i := 1) (by decide) (by decide) hl' (fun z => ⟨md_pi z 227 1, ?_, u227⟩)).elim (fun ⟨a, b, hab, a1, a2, a3, a4, a5, a6⟩ => ?_) (fun o => .inr o)
  · simp only [unless_0, bd_so, bx_so, bd_bd, lt, gd_z1, gd_z0, sF_fold, sF_pi, if_true, i10, if_false, ite_true, ite_false, mm_ofNumbers_263, mm_ofNumbers_264, mm_ofNumbers_349]
  rw [a5, a6]
  simp only [bx_so, bd_so, i10, if_false]
  have e14 : mm_isOf (lNn L) μ 2 2 14 = mm_isOf (lNn L) μ 2 2 45 := isOf_14 (EV_N E)
  rw [e14]
  refine (num_L E H (i := 2) (by decide) (by decide) hl' (fun z => ⟨md_pi z 227 1, ?_, u227⟩)).elim (fun ⟨c1, c2, c3, c4, c5⟩ => ?_) (fun o => .inr o)
  · simp only [unless_0, bd_so, bx_so, bd_bd, lt, gd_z1, gd_z0, sF_fold, sF_pi, if_true, i10, if_false, ite_true, ite_false, mm_ofNumbers_263, mm_ofNumbers_264, mm_ofNumbers_349]
  rw [c4, c5]
  have vn : VV w 3 (bV μ 2 + 1) 2 (bV μ 2 + 1) := .inr (.inr (.inr (.inl ⟨rfl, rfl, rfl⟩)))
  obtain ⟨r, c, d, d1, d2, d3, d4⟩ := live_L E H hab vn (by decide)
  simp only [bx_so, bd_so, i10, if_false, mm_ofNumbers_264]
  rw [unless_1 (L_227 H)]
  simp only [bd_so, sF_fold, L_227 H, if_true]
  rw [(tag_M H (i := 2) (by decide) (by decide)).2]
  rw [bd_so, lt, lt]
  rw [(tag_M H (i := 1) (by decide) (by decide)).2, bd_so, a4]
  rw [h_ll, d1, bd_so, d2, bd_so]
  dsimp only
  simp only [sF_fold, gt_42]
  rcases d4 with ⟨r1, r2, r3⟩ | ⟨r0, r1, r2, r3, r4⟩
  · obtain ⟨τ, τm, b1, b2, b3, b4, b5⟩ := give_L (N := lNn L) d3 (by decide) VV_nil
    have q42 : sF τm 42 = 0 := by rw [mf_F b5 rfl, gt_42]; exact r2
    rw [if_pos r1, if_pos r2]
    simp only [mm_ofNumbers_307, mm_ofNumbers_319, mm_ofNumbers_341, mm_ofNumbers_349, sF_fold, gt_42]
    rw [if_pos r2, b2]
    simp only [bd_so, sF_fold, q42, if_true, xx8_giveNil, b1, bx_so, xx8_plain_b465]
    exact LO_ok b3
  · obtain ⟨τ, τm, b1, b2, b3, b4, b5⟩ := give_L (N := lNn L) d3 (by decide) vn
    have q42 : sF τm 42 = c := by rw [mf_F b5 rfl, gt_42]
    have q43 : sG τm 43 = d := by rw [mf_G b5 rfl, gt_43]
    have en : (0 : Int32) ≤ r := r0
    have rr : ¬ r = -1 := fun q => by rw [q] at r0; exact absurd r0 (by decide)
    have v4 : VV w (sI τ 214 r) (sJ τ 215 r) c d := by rw [mf_I b4 rfl, mf_J b4 rfl]; exact r4
    have s4 : sI τ 214 r ≠ 0 := by rw [mf_I b4 rfl]; exact r2
    obtain ⟨τ2, τm2, e1, e2, e3, _⟩ := entry_L (N := lNn L) (r := r) b3 (by decide) (.inr ⟨r0, r1, s4, r3, v4⟩)
    rw [if_neg rr, if_neg r3]
    simp only [mm_ofNumbers_307, mm_ofNumbers_319, mm_ofNumbers_341, mm_ofNumbers_349, sF_fold, sG_fold, gt_42]
    rw [if_neg r3, b2]
    simp only [bd_so, sF_fold, sG_fold, q42, q43, e2, xx8_giveNumber, b1, e1, bx_so, xx8_plain_b465]
    rw [if_neg r3]
    exact LO_ok e3
