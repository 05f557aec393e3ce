/-! LAYER 2: values land in the top call -/
theorem RG_of {w : WD} {σ : mS} {f : Int32} {pt : Int32 → Int32} {pv : Int32 → Int64} : ∀ {ρ : List Int32} {B : Int32}, (∀ j, j < ρ.length → RV w σ f (ρ.getD j 0) (pt (B + Int32.ofNat j)) (pv (B + Int32.ofNat j))) → RG w σ f pt pv B ρ
  | [], _, _ => trivial
  | x :: ρ, B, h => by
    refine ⟨?_, RG_of (fun j hj => ?_)⟩
    · have := h 0 (by simp)
      have e : B + Int32.ofNat 0 = B := by show B + 0 = B; lia
      rw [e] at this
      exact this
    · have := h (j + 1) (by simpa using hj)
      rw [oN_cs]
      exact this
theorem rng_get {r n : Int32} {j : Nat} (h : j < n.toNatClampNeg) : (rng r n).getD j 0 = r + Int32.ofNat j := by
  rw [List.getD_eq_getElem?_getD, rng, List.getElem?_map, List.getElem?_range h]; rfl
theorem RG_rng {w : WD} {σ : mS} {f r n B : Int32} {pt : Int32 → Int32} {pv : Int32 → Int64} (r0 : 0 ≤ r) (r1 : r ≤ 5000) (n1 : n ≤ 5000) (h : ∀ k, 0 ≤ k → k < n → VV w (xt σ f (r + k)) (xv σ f (r + k)) (pt (B + k)) (pv (B + k))) : RG w σ f pt pv B (rng r n) := RG_of (fun j hj => by
  rw [rng_len] at hj
  have kl := cl_lt hj
  rw [rng_get hj]
  exact .inr (.inl ⟨by lia, h _ kl.1 kl.2⟩))
theorem RG_rng' {w : WD} {σ : mS} {f r n B : Int32} {pt : Int32 → Int32} {pv : Int32 → Int64} (r0 : 0 ≤ r) (r1 : r ≤ 5000) (n1 : n ≤ 5000) (H : RG w σ f pt pv B (rng r n)) : ∀ k, 0 ≤ k → k < n → VV w (xt σ f (r + k)) (xv σ f (r + k)) (pt (B + k)) (pv (B + k)) := fun k k0 k1 => by
  have e : Int32.ofNat k.toNatClampNeg = k := by
    rw [tI_eq, tI_cl, tI_lit (by have := tI_rng k; omega)]
    rw [tI_le] at k0
    have z : (0 : Int32).toInt = 0 := rfl
    omega
  have hj : k.toNatClampNeg < n.toNatClampNeg := by
    rw [tI_lt] at k1
    rw [tI_le] at k0
    have z : (0 : Int32).toInt = 0 := rfl
    rw [tI_cl, tI_cl]; omega
  have := RG_at H (j := k.toNatClampNeg) (by rw [rng_len]; exact hj)
  rw [rng_get hj, e] at this
  rcases this with ⟨a, _⟩ | ⟨_, a⟩ | ⟨a, _⟩ | ⟨a, _⟩ | ⟨a, _⟩
  · lia
  · exact a
  · exfalso; lia
  · exfalso; lia
  · exfalso; lia
/-- the machine after the top call was touched -/
theorem MR0_tc {e : EV} {w : WD} {xf : Int32 → List Int32} {c d : Int32} {rest : PL2} {f : Int32} {fl : List Int32} {σ μ τ τm : mS} (H : MR0 e w xf c d rest f fl σ μ) (x : xtc f (sI σ 261 (sI σ 344 f)) σ τ) (y : mtc (sF μ 154 - 1) (mff μ (sF μ 154 - 1) 3) μ τm) : MR0 e w xf c d rest f fl τ τm := by
  obtain ⟨H1, V, hf, hk, hB, FCx, FLx⟩ := H
  obtain ⟨c1, c2, c3, c4, c5, c6, c7, c8, c9, c10, c11, c12, c13⟩ := FCx
  have cl := ME_calls H1
  have kb' := BC_kb H1.2.2.2.2.2.1
  simp only at kb'
  have hR : sI σ 261 (sI σ 344 f) ≤ sI σ 349 f := by rw [c9.1]; have := c9.2; have := c7.2; lia
  have R0 : 0 ≤ sI σ 261 (sI σ 344 f) := by have := c9.2.1; lia
  have B3 : mff μ (sF μ 154 - 1) 5 < mff μ (sF μ 154 - 1) 3 := by have := c7.2; lia
  have M' := ME_tc H1 hf x y hR R0 (by lia) (by lia)
  obtain ⟨ncx, pcx⟩ := cX_nd H1.2.2.2.2.1
  have hc := (ME_c H1).1
  have nfl := fl_nd H1.2.2.2.1 hc
  rw [hf] at nfl
  obtain ⟨x1, x2, x3⟩ := x
  obtain ⟨y1, y2, y3⟩ := y
  have i : ∀ k, 154 ≤ k → k ≤ 187 → ∀ m, sI τm k m = sI μ k m := fun k a b m => mf_I y1 (nT_f (by omega))
  have fm : ∀ k, 154 ≤ k → k ≤ 187 → sF τm k = sF μ k := fun k a b => mf_F y1 (nT_f (by omega))
  have mj : ∀ j, j ≠ 2 → j ≠ 8 → j ≠ 9 → j < 10 → ∀ k, mff τm k j = mff μ k j := fun j a b c' d' k => mf_I y1 (nT_f (by omega))
  have e54 := fm 154 (by omega) (by omega)
  have e162 := i 162 (by omega) (by omega)
  have e161 := i 161 (by omega) (by omega)
  have x5 : ∀ k, k = 343 ∨ k = 344 ∨ k = 348 ∨ k = 349 ∨ k = 350 ∨ k = 351 ∨ k = 352 ∨ k = 355 ∨ k = 347 ∨ k = 261 ∨ k = 222 → ∀ m, sI τ k m = sI σ k m := fun k hk m => mf_I x1 (xT_f (by omega))
  refine ⟨M', SV_fr V wle_rfl x1 y1 (fun k hk => ?_) (fun k hk => ?_), hf, ?_, ?_, ?_, ?_⟩
  · rcases hk with hk | hk
    · have := xR_f hk
      exact xT_f (by omega)
    · exact xT_f (by omega)
  · rcases hk with hk | hk
    · simp only [mR, inR, Bool.or_eq_false_iff, Bool.and_eq_false_iff, decide_eq_false_iff_not] at hk
      exact nT_f (by omega)
    · exact nT_f (by omega)
  · rw [e162, e54]; exact hk
  · rw [e161, e54, e162, mj 5 (by omega) (by omega) (by omega) (by omega)]; exact hB
  · rw [e54]
    refine ⟨c1, by rw [x5 355 (by omega)]; exact c2, by rw [mj 0 (by omega) (by omega) (by omega) (by omega)]; exact c3, ?_, ?_, by rw [x5 344 (by omega)]; exact c6, ?_, ?_, ?_, trivial, ?_, ?_, ?_⟩
    · rw [x5 343 (by omega), mj 1 (by omega) (by omega) (by omega) (by omega)]; exact c4
    · rw [x5 344 (by omega), x5 222 (by omega), x5 343 (by omega)]; exact c5
    · rw [x5 348 (by omega), mj 4 (by omega) (by omega) (by omega) (by omega)]; exact c7
    · rw [mj 3 (by omega) (by omega) (by omega) (by omega), mj 5 (by omega) (by omega) (by omega) (by omega), mj 4 (by omega) (by omega) (by omega) (by omega)]; exact c8
    · rw [x5 349 (by omega), x5 344 (by omega), x5 261 (by omega), mj 4 (by omega) (by omega) (by omega) (by omega)]; exact c9
    · rw [mj 5 (by omega) (by omega) (by omega) (by omega), mj 4 (by omega) (by omega) (by omega) (by omega), x5 344 (by omega), x5 261 (by omega)]
      have fz : sI σ 349 f ≠ 0 := by have := c9.2.1; lia
      have fb := (XF_at H1.2.2.2.1 (fAll_mem hc (by rw [hf]; exact List.mem_cons_self))).2.2.2 fz
      refine RG_cg c11 wle_rfl (fun y hy y0 => ?_) (fun j hj => ?_)
      · obtain ⟨z, z0, z1, rfl⟩ := rng_mem hy
        rw [dc_p (by have := c9.2; have := c7.2; lia)]
        simp only [xt, xv]
        rw [x5 347 (by omega)]
        exact x3 _ (by have := c9.2; have := c7.2; lia) (.inr (by have := c9.2; have := c7.2; lia))
      · rw [rng_len] at hj
        have lj := cl_lt hj
        exact y3 _ (by have := c7.2; lia) (by have := c7.2; lia)
    · rw [mj 5 (by omega) (by omega) (by omega) (by omega), (y3 _ (by lia) B3).1]; exact c12
    · rw [mj 5 (by omega) (by omega) (by omega) (by omega), mj 1 (by omega) (by omega) (by omega) (by omega), (y3 _ (by lia) B3).2]; exact c13
  · rw [e54, e162, e161]
    have ec : ctO τ (mff τm) f (sF μ 154 - 1) = ctO σ (mff μ) f (sF μ 154 - 1) := by
      simp only [ctO, x5 350 (by omega), x5 351 (by omega), x5 352 (by omega), mj 5 (by omega) (by omega) (by omega) (by omega), mj 6 (by omega) (by omega) (by omega) (by omega), mj 7 (by omega) (by omega) (by omega) (by omega)]
    rw [ec]
    refine FL_tc FLx ⟨kb'.1, by lia, kb'.2.2.1, kb'.2.2.2.1⟩ H1.2.2.2.1 ⟨x1, x2, x3⟩ ⟨y1, y2, y3⟩ (fAll_mem hc (by rw [hf]; exact List.mem_cons_self)) hR R0 (fun g hg => ⟨fAll_mem hc (by rw [hf]; exact List.mem_cons_of_mem _ hg), fun r => (List.nodup_cons.mp nfl).1 (by rw [← r]; exact hg)⟩) (by lia) ?_
    show mff μ (sF μ 154 - 1) 5 ≤ _
    lia
/-- the machine while the heap changes -/
theorem MR0_fr {P Q : Nat → Bool} {e : EV} {w w' : WD} {xf : Int32 → List Int32} {c d : Int32} {rest : PL2} {f : Int32} {fl : List Int32} {σ μ τ τm : mS} (H : MR0 e w xf c d rest f fl σ μ) (M : ME (eS e) (eK e) (eQ e) w' xf c d rest τ τm) (V : SV e w' τ τm) (wl : wle w w') (hc : cds w σ τ) (fr : m_fr P σ τ) (frm : m_fr Q μ τm) (hp : ∀ k, kX k → P k = false) (hq : ∀ k, kM k → Q k = false) : MR0 e w' xf c d rest f fl τ τm := by
  obtain ⟨H1, _, hf, hk, hB, FCx, FLx⟩ := H
  have cl := ME_calls H1
  have kb' := BC_kb H1.2.2.2.2.2.1
  simp only at kb'
  have i : ∀ k, 141 ≤ k → k ≤ 178 → ∀ m, sI τm k m = sI μ k m := fun k a b m => mf_I frm (hq k ⟨a, b⟩)
  have e54 : sF τm 154 = sF μ 154 := mf_F frm (hq _ ⟨by omega, by omega⟩)
  have mj : ∀ k j, j < 10 → mff τm k j = mff μ k j := fun k j hj => mff_fr frm hq hj
  have xx := xcs_fr (f := f) fr hp
  have x1 := fun k hk => xx.1 k hk
  obtain ⟨c1, c2, c3, c4, c5, c6, c7, c8, c9, c10, c11, c12, c13⟩ := FCx
  refine ⟨M, V, hf, ?_, ?_, ⟨c1, by rw [x1 355 (by omega)]; exact c2, ?_, ?_, ?_, by rw [x1 344 (by omega)]; exact c6, ?_, ?_, ?_, trivial, ?_, ?_, ?_⟩, ?_⟩
  · rw [e54, i 162 (by omega) (by omega)]; exact hk
  · rw [e54, i 162 (by omega) (by omega), i 161 (by omega) (by omega), mj _ 5 (by omega)]; exact hB
  · rw [e54, mj _ 0 (by omega)]; exact c3
  · rw [e54, mj _ 1 (by omega), x1 343 (by omega)]; exact wl.2.2.2.1 _ c4
  · rw [x1 344 (by omega), x1 343 (by omega), hc.2.2 _ _ c4]; exact c5
  · rw [e54, mj _ 4 (by omega), x1 348 (by omega)]; exact c7
  · rw [e54, mj _ 3 (by omega), mj _ 4 (by omega), mj _ 5 (by omega)]; exact c8
  · rw [e54, mj _ 4 (by omega), x1 349 (by omega), x1 344 (by omega), hc.2.1]; exact c9
  · rw [e54, mj _ 4 (by omega), mj _ 5 (by omega), x1 344 (by omega), hc.2.1]
    refine RG_cg c11 wl (fun y hy y0 => ?_) (fun j hj => ⟨i 141 (by omega) (by omega) _, mf_J frm (hq _ ⟨by omega, by omega⟩)⟩)
    obtain ⟨z, z0, z1, rfl⟩ := rng_mem hy
    rw [dc_p (by have := c9.2; have := c7.2; lia)]
    exact xx.2 _ (by have := c9.2; have := c7.2; lia) (by rw [c9.1]; have := c9.2; have := c7.2; lia)
  · rw [e54, mj _ 5 (by omega), i 141 (by omega) (by omega)]; exact c12
  · rw [e54, mj _ 5 (by omega), mj _ 1 (by omega), mf_J frm (hq _ ⟨by omega, by omega⟩)]; exact c13
  · rw [e54, i 162 (by omega) (by omega), i 161 (by omega) (by omega)]
    have ec : ctO τ (mff τm) f (sF μ 154 - 1) = ctO σ (mff μ) f (sF μ 154 - 1) := by
      simp only [ctO, x1 350 (by omega), x1 351 (by omega), x1 352 (by omega), mj _ 5 (by omega), mj _ 6 (by omega), mj _ 7 (by omega)]
    rw [ec]
    exact FLr_fr FLx ⟨kb'.1, by lia, kb'.2.2.1, kb'.2.2.2.1⟩ wl hc fr frm hp hq
theorem TP_fr {P Q : Nat → Bool} {w w' : WD} {σ μ τ τm : mS} {f k m : Int32} {ρ : List Int32} (H : TP w σ μ f k ρ m) (wl : wle w w') (fr : m_fr P σ τ) (frm : m_fr Q μ τm) (hp : ∀ k, kX k → P k = false) (hq : ∀ k, kM k → Q k = false) : TP w' τ τm f k ρ m := by
  have i : ∀ k, 141 ≤ k → k ≤ 178 → ∀ m, sI τm k m = sI μ k m := fun k a b m => mf_I frm (hq k ⟨a, b⟩)
  have j : ∀ m, sJ τm 142 m = sJ μ 142 m := fun m => mf_J frm (hq _ ⟨by omega, by omega⟩)
  have f43 : sF τm 143 = sF μ 143 := mf_F frm (hq _ ⟨by omega, by omega⟩)
  have b3 : mff τm k 3 = mff μ k 3 := mff_fr frm hq (by omega)
  have b9 : mff τm k 9 = mff μ k 9 := mff_fr frm hq (by omega)
  have xr : ∀ x, xt τ f x = xt σ f x ∧ xv τ f x = xv σ f x := fun x => by
    simp only [xt, xv]
    rw [mf_I fr (hp 364 (.inr (by omega))), mf_I fr (hp 347 (.inr (by omega))), mf_J fr (hp 365 (.inr (by omega)))]
    exact ⟨rfl, rfl⟩
  have g : ∀ (B : Int32) (ρ : List Int32), RG w σ f (sI μ 141) (sJ μ 142) B ρ → RG w' τ f (sI τm 141) (sJ τm 142) B ρ := fun B ρ h => RG_cg h wl (fun x _ _ => xr (dc x)) (fun _ _ => ⟨i 141 (by omega) (by omega) _, j _⟩)
  simp only [TP]
  rw [f43, b3, b9]
  rcases H with ⟨h1, h2, h3⟩ | ⟨h1, ρ0, r, h2, h3, h4, h5, h6, h7, h8⟩ | ⟨h1, n, h2, h3, h4, h5, h6, h7, h8⟩
  · exact .inl ⟨h1, g _ _ h2, h3⟩
  · refine .inr (.inl ⟨h1, ρ0, r, h2, h3, g _ _ h4, h5, ?_, ?_, ?_⟩)
    · rw [(xr r).2]; exact h6
    · rw [i 141 (by omega) (by omega)]; exact h7
    · rw [(xr r).1, j]; exact h8
  · refine .inr (.inr ⟨h1, n, h2, h3, g _ _ h4, g _ _ h5, h6, ?_, h8⟩)
    rw [mf_I fr (hp 354 (.inr (by omega)))]; exact h7
