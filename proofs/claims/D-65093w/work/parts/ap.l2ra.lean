/-! LAYER 2: errors go down to where they are caught -/
theorem pK_R {k : Nat} (h : xR k = false ∨ k = 406 ∨ k = 523 ∨ k = 524) : pK k = false := by
  have h' : (k < 323 ∨ 339 < k) ∧ (k < 343 ∨ 365 < k) := by
    rcases h with h | h
    · have := xR_f h
      omega
    · omega
  simp only [pK, List.contains_cons, List.contains_nil, Bool.or_eq_false_iff, beq_eq_false_iff_ne]
  (repeat' (first | exact trivial | omega | apply And.intro))
theorem TH_fr {P : Nat → Bool} {w : WD} {σ τ : mS} {ty : Int32} {v : Int64} (h : TH w σ ty v) (fr : m_fr P σ τ) (p1 : P 403 = false) (p2 : P 404 = false) : TH w τ ty v := by
  simp only [TH] at h ⊢
  rw [mf_F fr p1, mf_G fr p2]; exact h
theorem lnH_0 {σ τ : mS} {xf : List Int32} (h : ∀ f, f ∈ xf → xcs σ τ f) (h257 : ∀ m, sI τ 257 m = sI σ 257 m) : lnH τ xf = lnH σ xf := by
  induction xf with
  | nil => rfl
  | cons f fl ih =>
    have x := (h f List.mem_cons_self).1
    simp only [lnH]
    rw [x 355 (by omega), x 345 (by omega), h257, ih (fun g hg => h g (List.mem_cons_of_mem _ hg))]
set_option maxHeartbeats 3000000 in
theorem RA_step {e : EV} (E : EVok e) {M n : Nat} {F n0 : Int32} (hM : M + 1 < eN e) (IG : ∀ m, m < n → GFst e M F n0 m) (IR : ∀ m, m < n → RAst e M F n0 m) : RAst e M F n0 n := by
  intro w xf c d rest σ μ ty v dd j hn H V hU hL th hl hF hn0 hd hj hj2
  have hN := EV_N E
  have cc := ME_c H
  have cl := ME_calls H
  have kb' := BC_kb H.2.2.2.2.2.1
  simp only at kb'
  have now : sF σ 339 = c ∧ sF μ 172 = d := ⟨H.2.2.2.2.2.2.1.1, H.2.2.2.2.2.2.1.2.1⟩
  have ln := LK_len hL
  have k00 : 0 ≤ (sI μ 162 d).toInt := by have := kb'.1; rw [tI_le] at this; exact this
  have c0' : 0 ≤ (sF μ 154).toInt := by omega
  have len : (xf c).length ≤ 202 := by
    have c2 := cl.2.1
    rw [tI_le] at c2
    have z2 : (200 : Int32).toInt = 200 := rfl
    omega
  have la := lah_2 hN H hL (by lia)
  have H0 : ME (eS e) (eK e) (eQ e) w xf c d rest σ (mPop μ (sF μ 154) (sF μ 155)) := by rw [mPop_0]; exact H
  have V0 : SV e w σ (mPop μ (sF μ 154) (sF μ 155)) := by rw [mPop_0]; exact V
  obtain ⟨τ, fl', a', b', xf', ux, um, M1, V1, hx, fp, ale, bre, cas⟩ := unw_2 (e := e) (N := eN e) (T := rc_finish (eN e) dd) (ty := ty) (v := v) now.2 cc.2.2.2.1 cc.2.2.2.2.1 (xf c) xf σ (sF μ 154) (sF μ 155) (eN e) (eN e) H0 V0 rfl hU (by have := E.1; omega) (by have := E.1; omega) cl.2.1
  have th1 : TH w τ ty v := TH_fr th fp rfl rfl
  have F1 : sF τ 396 = F := by rw [mf_F fp rfl]; exact hF
  have l1 : sF τ 405 = lnH σ (xf c) := by rw [mf_F fp rfl]; exact hl
  have g162 : sI (mPop μ a' b') 162 d = sI μ 162 d := by simp only [mPop, sF_pi, sF_pl, sF_ai, sF_al, sG_pi, sG_pl, sG_ai, sG_al, sI_pi, sI_pl, sI_al, sI_ai1, sI_ai2, sJ_pi, sJ_pl, sJ_ai, sJ_al1, sJ_al2, Nat.reduceEqDiff, if_true, if_false, ne_eq, not_false_eq_true, ite_true, ite_false]
  have g161 : sI (mPop μ a' b') 161 d = sI μ 161 d := by simp only [mPop, sF_pi, sF_pl, sF_ai, sF_al, sG_pi, sG_pl, sG_ai, sG_al, sI_pi, sI_pl, sI_al, sI_ai1, sI_ai2, sJ_pi, sJ_pl, sJ_ai, sJ_al1, sJ_al2, Nat.reduceEqDiff, if_true, if_false, ne_eq, not_false_eq_true, ite_true, ite_false]
  have g154 : sF (mPop μ a' b') 154 = a' := by simp only [mPop, sF_pi, sF_pl, sF_ai, sF_al, sG_pi, sG_pl, sG_ai, sG_al, sI_pi, sI_pl, sI_al, sI_ai1, sI_ai2, sJ_pi, sJ_pl, sJ_ai, sJ_al1, sJ_al2, Nat.reduceEqDiff, if_true, if_false, ne_eq, not_false_eq_true, ite_true, ite_false]
  have g155 : sF (mPop μ a' b') 155 = b' := by simp only [mPop, sF_pi, sF_pl, sF_ai, sF_al, sG_pi, sG_pl, sG_ai, sG_al, sI_pi, sI_pl, sI_al, sI_ai1, sI_ai2, sJ_pi, sJ_pl, sJ_ai, sJ_al1, sJ_al2, Nat.reduceEqDiff, if_true, if_false, ne_eq, not_false_eq_true, ite_true, ite_false]
  have cc1 := ME_c M1
  have now1 : sF τ 339 = c := M1.2.2.2.2.2.2.1.1
  have xu : ∀ nn : Nat, 0 < nn → xx6_unwind_b0 (eN e) nn σ = xx6_unwind_b52 (eN e) (xx6_unwind_b0 (eN e) (nn - 1)) c τ := fun nn h => by
    obtain ⟨nn, rfl⟩ : ∃ i, nn = i + 1 := ⟨nn - 1, by omega⟩
    rw [xx6_unwind_b0, Nat.add_sub_cancel]
    simp only [lt, sF_fold, now.1]
    exact ux _
  have mr : ∀ n2 : Nat, 0 < n2 → mm_raise_0 (eN e) (rc_finish (eN e) dd) n2 ty v μ = mm_raise_39 (eN e) (rc_finish (eN e) dd) (mm_raise_0 (eN e) (rc_finish (eN e) dd) (n2 - 1)) ty v (a' - 1) μ := fun n2 h => by
    obtain ⟨n2, rfl⟩ : ∃ i, n2 = i + 1 := ⟨n2 - 1, by omega⟩
    rw [mm_raise_0, Nat.add_sub_cancel]
    simp only [lt, sF_fold]
    exact um _
  have tv := VV_tag th
  rcases cas with ⟨rfl, ha⟩ | ⟨g, fl2, rfl, ha, gr, gg, gB, gF⟩
  · -- no guard here
    have t0 := top_0 M1.2.2.2.1 cc1.1 hx
    by_cases hm : d = 120
    · -- the run is over
      have rn : rest = [] := cc.2.2.2.2.2.1.mp hm
      have c00 : c = 0 := cc.2.2.2.2.2.2.mp hm
      subst hm; subst rn; subst c00
      subst ha
      obtain ⟨rx, μ', o1, o2, o3⟩ := err_2 E M1 V1 hx bre.symm th1 now.2 l1 la.2 (rc_finish (eN e) dd) (fun _ _ _ => none)
      have o1' : ∀ r0, mm_raise_39 (eN e) (rc_finish (eN e) dd) r0 ty v (sI μ 162 120 - 1) μ = some μ' := fun r0 => by
        obtain ⟨_, μ2, q1, _, _⟩ := err_2 E M1 V1 hx bre.symm th1 now.2 l1 la.2 (rc_finish (eN e) dd) r0
        rw [← o1]
        have c162 : sI μ 162 120 = 0 := by
          have := M1.2.2.2.2.2.1.2.2.1
          rw [g162] at this; exact this
        have nt : vp_nar .byte (ty.toInt8.toInt32) = ty := nar_tag tv.2.2.1 (by lia)
        simp (disch := lia) only [mm_raise_39, lt, gd_in, if_pos, if_neg, ↓reduceIte, gd_z0, gd_z1, gd_tt, sF_fold, sG_fold, sI_fold, sJ_fold, now.2, c162]
      refine ⟨rx, μ', fun n2 h2 => ?_, fun nn k n' h1 h2 h3 => ?_, o3 _⟩
      · rw [mr n2 (by omega)]; exact o1' _
      · rw [xu nn (by omega)]
        have : xx6_unwind_b52 (eN e) (xx6_unwind_b0 (eN e) (nn - 1)) 0 τ = some (.ok (0, τ)) := by
          simp (disch := lia) only [xx6_unwind_b52, lt, gd_in, if_pos, if_neg, ↓reduceIte, gd_z0, gd_z1, gd_tt, sF_fold, sG_fold, sI_fold, sJ_fold, t0]
        rw [this]; exact o2 k n'
    · -- the coroutine is dead
      have cn0 : c ≠ 0 := fun z => hm (cc.2.2.2.2.2.2.mpr z)
      cases rest with
      | nil => exact absurd (cc.2.2.2.2.2.1.mpr rfl) hm
      | cons p rest =>
      obtain ⟨c2, d2⟩ := p
      obtain ⟨b1, b2, b3, b4, b5, b6, b7, b8, b9, b10⟩ := M1.2.2.2.2.2.1
      have mem := BC_mem M1.2.2.2.2.2.1 (c2, d2) (List.mem_cons_of_mem _ List.mem_cons_self)
      have W := H.1.1.1
      have r2 : (0 ≤ c2 ∧ c2 < 121) ∧ 0 ≤ d2 ∧ d2 < 121 := by
        rcases mem with y | y
        · obtain ⟨y1, y2⟩ := Prod.mk.inj y
          subst y1; subst y2
          exact ⟨⟨by decide, by decide⟩, by decide, by decide⟩
        · have := W.2.2.2.2.2 c2 d2 y.1
          have := (H.2.2.2.2.1.1 c2 d2 y.1).1
          exact ⟨⟨by lia, by lia⟩, by lia, by lia⟩
      have dlt : 0 ≤ d ∧ d < 120 := by have := W.2.2.2.2.2 c d b1; exact ⟨by lia, by lia⟩
      have i60 : sI μ 160 d = d2 := by have := b6.2; simp only [mPop, sF_pi, sF_pl, sF_ai, sF_al, sG_pi, sG_pl, sG_ai, sG_al, sI_pi, sI_pl, sI_al, sI_ai1, sI_ai2, sJ_pi, sJ_pl, sJ_ai, sJ_al1, sJ_al2, Nat.reduceEqDiff, if_true, if_false, ne_eq, not_false_eq_true, ite_true, ite_false] at this; exact this
      have b3' : 1 ≤ sI μ 162 d ∧ sI μ 162 d ≤ 256 := by rw [← g162]; exact b3
      let σ1 := md_ai τ 323 c.toNatClampNeg 3
      let σ2 := md_pi (md_ai (md_pi σ1 339 c2) 323 c2.toNatClampNeg 1) 358 (sF τ 358 - 1)
      have bk : xx6_back (eN e) σ1 c = some σ2 := by
        have := back_x (N := eN e) (σ := σ1) (c := c) (c2 := c2) cc.2.1 cc.2.2.1 (by simp (disch := lia) only [σ1, sF_pi, sF_pl, sF_ai, sF_al, sG_pi, sG_pl, sG_ai, sG_al, sI_pi, sI_pl, sI_al, sI_ai1, sI_ai2, sJ_pi, sJ_pl, sJ_ai, sJ_al1, sJ_al2, Nat.reduceEqDiff, if_true, if_false, ne_eq, not_false_eq_true, ite_true, ite_false]; exact b6.1) r2.1.1 r2.1.2
        rw [this]
        simp only [σ2, σ1, sF_pi, sF_pl, sF_ai, sF_al, sG_pi, sG_pl, sG_ai, sG_al, sI_pi, sI_pl, sI_al, sI_ai1, sI_ai2, sJ_pi, sJ_pl, sJ_ai, sJ_al1, sJ_al2, Nat.reduceEqDiff, if_true, if_false, ne_eq, not_false_eq_true, ite_true, ite_false]
      let μ8 := md_pi (md_pi (md_ai (md_pi (md_ai (md_pi (md_pi μ 155 (sF μ 155 - (sF μ 154 - sI μ 162 d))) 154 (sI μ 162 d)) 156 d.toNatClampNeg 3) 172 d2) 156 d2.toNatClampNeg 1) 154 (sI μ 162 d - 1)) 155 (sF μ 155 - (sF μ 154 - sI μ 162 d) - 1)
      have bb : b' = sF μ 155 - (sF μ 154 - sI μ 162 d) := by rw [ha] at bre; lia
      have fx : m_fr stX τ σ2 := mf_pi (mf_ai (mf_pi (mf_ai mf_rfl rfl) rfl) rfl) rfl
      have fx' : m_fr (fun k => [323, 324, 339, 358].contains k) τ σ2 := mf_pi (mf_ai (mf_pi (mf_ai mf_rfl rfl) rfl) rfl) rfl
      have fm0 : m_fr (fun k => [154, 155, 156, 172].contains k) μ μ8 := mf_pi (mf_pi (mf_ai (mf_pi (mf_ai (mf_pi (mf_pi mf_rfl rfl) rfl) rfl) rfl) rfl) rfl) rfl
      have fmp : m_fr (fun k => [154, 155, 156, 172].contains k) μ (mPop μ a' b') := mf_pi (mf_pi mf_rfl rfl) rfl
      have fm' : m_fr (fun k => [154, 155, 156, 172].contains k) (mPop μ a' b') μ8 := ⟨fun k hk => by rw [fm0.1 k hk, fmp.1 k hk], fun k hk => by rw [fm0.2.1 k hk, fmp.2.1 k hk], fun k hk => by rw [fm0.2.2.1 k hk, fmp.2.2.1 k hk], fun k hk => by rw [fm0.2.2.2 k hk, fmp.2.2.2 k hk]⟩
      have fm : m_fr stM (mPop μ a' b') μ8 := mf_mono fm' (fun k hk => by
        simp only [stM, List.contains_cons, List.contains_nil, Bool.or_eq_false_iff, beq_eq_false_iff_ne] at hk ⊢
        (repeat' (first | exact trivial | omega | apply And.intro)))
      obtain ⟨E1, E2, E3⟩ := ME_end (τ := σ2) (τm := μ8) M1 hx (by rw [g154, g162]; exact ha) fx fm (fun x x0 => by
          simp (disch := lia) only [σ2, σ1, sF_pi, sF_pl, sF_ai, sF_al, sG_pi, sG_pl, sG_ai, sG_al, sI_pi, sI_pl, sI_al, sI_ai1, sI_ai2, sJ_pi, sJ_pl, sJ_ai, sJ_al1, sJ_al2, Nat.reduceEqDiff, if_true, if_false, ne_eq, not_false_eq_true, ite_true, ite_false, sI_ai r2.1.1 x0, sI_ai cc.2.1 x0, true_and, false_and]) (fun x x0 => by
          by_cases q : x = c
          · subst q
            rw [if_pos rfl]
            simp (disch := lia) only [σ2, σ1, sF_pi, sF_pl, sF_ai, sF_al, sG_pi, sG_pl, sG_ai, sG_al, sI_pi, sI_pl, sI_al, sI_ai1, sI_ai2, sJ_pi, sJ_pl, sJ_ai, sJ_al1, sJ_al2, Nat.reduceEqDiff, if_true, if_false, ne_eq, not_false_eq_true, ite_true, ite_false]
            exact b2.1
          · rw [if_neg q]
            simp (disch := lia) only [σ2, σ1, sF_pi, sF_pl, sF_ai, sF_al, sG_pi, sG_pl, sG_ai, sG_al, sI_pi, sI_pl, sI_al, sI_ai1, sI_ai2, sJ_pi, sJ_pl, sJ_ai, sJ_al1, sJ_al2, Nat.reduceEqDiff, if_true, if_false, ne_eq, not_false_eq_true, ite_true, ite_false]) (by simp only [σ2, sF_pi, sF_pl, sF_ai, sF_al, sG_pi, sG_pl, sG_ai, sG_al, sI_pi, sI_pl, sI_al, sI_ai1, sI_ai2, sJ_pi, sJ_pl, sJ_ai, sJ_al1, sJ_al2, Nat.reduceEqDiff, if_true, if_false, ne_eq, not_false_eq_true, ite_true, ite_false]) (by simp only [σ2, sF_pi, sF_pl, sF_ai, sF_al, sG_pi, sG_pl, sG_ai, sG_al, sI_pi, sI_pl, sI_al, sI_ai1, sI_ai2, sJ_pi, sJ_pl, sJ_ai, sJ_al1, sJ_al2, Nat.reduceEqDiff, if_true, if_false, ne_eq, not_false_eq_true, ite_true, ite_false]) (by simp only [σ2, σ1, sF_pi, sF_pl, sF_ai, sF_al, sG_pi, sG_pl, sG_ai, sG_al, sI_pi, sI_pl, sI_al, sI_ai1, sI_ai2, sJ_pi, sJ_pl, sJ_ai, sJ_al1, sJ_al2, Nat.reduceEqDiff, if_true, if_false, ne_eq, not_false_eq_true, ite_true, ite_false]) (by rw [g154, ha]; simp only [μ8, sF_pi, sF_pl, sF_ai, sF_al, sG_pi, sG_pl, sG_ai, sG_al, sI_pi, sI_pl, sI_al, sI_ai1, sI_ai2, sJ_pi, sJ_pl, sJ_ai, sJ_al1, sJ_al2, Nat.reduceEqDiff, if_true, if_false, ne_eq, not_false_eq_true, ite_true, ite_false]) (by rw [g155, bb]; simp only [μ8, sF_pi, sF_pl, sF_ai, sF_al, sG_pi, sG_pl, sG_ai, sG_al, sI_pi, sI_pl, sI_al, sI_ai1, sI_ai2, sJ_pi, sJ_pl, sJ_ai, sJ_al1, sJ_al2, Nat.reduceEqDiff, if_true, if_false, ne_eq, not_false_eq_true, ite_true, ite_false]) (fun x x0 => by
          simp (disch := lia) only [μ8, mPop, sF_pi, sF_pl, sF_ai, sF_al, sG_pi, sG_pl, sG_ai, sG_al, sI_pi, sI_pl, sI_al, sI_ai1, sI_ai2, sJ_pi, sJ_pl, sJ_ai, sJ_al1, sJ_al2, Nat.reduceEqDiff, if_true, if_false, ne_eq, not_false_eq_true, ite_true, ite_false, sI_ai r2.2.1 x0, sI_ai dlt.1 x0, true_and, false_and]) (by simp only [μ8, sF_pi, sF_pl, sF_ai, sF_al, sG_pi, sG_pl, sG_ai, sG_al, sI_pi, sI_pl, sI_al, sI_ai1, sI_ai2, sJ_pi, sJ_pl, sJ_ai, sJ_al1, sJ_al2, Nat.reduceEqDiff, if_true, if_false, ne_eq, not_false_eq_true, ite_true, ite_false])
      have e154 : sF μ8 154 = sI μ 162 d - 1 := by simp only [μ8, sF_pi, sF_pl, sF_ai, sF_al, sG_pi, sG_pl, sG_ai, sG_al, sI_pi, sI_pl, sI_al, sI_ai1, sI_ai2, sJ_pi, sJ_pl, sJ_ai, sJ_al1, sJ_al2, Nat.reduceEqDiff, if_true, if_false, ne_eq, not_false_eq_true, ite_true, ite_false]
      have t1 : (sF μ8 154).toInt = (sI μ 162 d).toInt - 1 := by rw [e154]; exact tI_dec (k := 0) (by lia)
      have c1' : 1 ≤ (sI μ 162 d).toInt := by have := b3'.1; rw [tI_le] at this; exact this
      have V3 : SV e w σ2 μ8 := SV_fr V1 wle_rfl fx' fm' (fun k hk => by
        rcases hk with hk | hk
        · have := xR_f hk
          simp only [List.contains_cons, List.contains_nil, Bool.or_eq_false_iff, beq_eq_false_iff_ne]
          (repeat' (first | exact trivial | omega | apply And.intro))
        · simp only [List.contains_cons, List.contains_nil, Bool.or_eq_false_iff, beq_eq_false_iff_ne]
          (repeat' (first | exact trivial | omega | apply And.intro))) (fun k hk => by
        rcases hk with hk | hk
        · simp only [mR, inR, Bool.or_eq_false_iff, Bool.and_eq_false_iff, decide_eq_false_iff_not] at hk
          simp only [List.contains_cons, List.contains_nil, Bool.or_eq_false_iff, beq_eq_false_iff_ne]
          (repeat' (first | exact trivial | omega | apply And.intro))
        · simp only [List.contains_cons, List.contains_nil, Bool.or_eq_false_iff, beq_eq_false_iff_ne]
          (repeat' (first | exact trivial | omega | apply And.intro)))
      have F2 : sF σ2 396 = F := by rw [mf_F fx' rfl]; exact F1
      have th2 : TH w σ2 ty v := TH_fr th1 fx' rfl rfl
      have cl3 : 0 ≤ sF μ8 154 ∧ sF μ8 154 < 256 := by rw [e154]; lia
      have q44 : sI (mPop μ a' b') 144 (sF μ8 154) = sI μ 144 (sF μ8 154) := by simp only [mPop, sF_pi, sF_pl, sF_ai, sF_al, sG_pi, sG_pl, sG_ai, sG_al, sI_pi, sI_pl, sI_al, sI_ai1, sI_ai2, sJ_pi, sJ_pl, sJ_ai, sJ_al1, sJ_al2, Nat.reduceEqDiff, if_true, if_false, ne_eq, not_false_eq_true, ite_true, ite_false]
      have m44 : sI μ8 144 (sF μ8 154) = sI μ 144 (sF μ8 154) := mf_I fm0 rfl
      have m49 : ∀ k, mff (mPop μ a' b') k 5 = sI μ8 149 k := fun k => by simp only [mff, mPop, μ8, sF_pi, sF_pl, sF_ai, sF_al, sG_pi, sG_pl, sG_ai, sG_al, sI_pi, sI_pl, sI_al, sI_ai1, sI_ai2, sJ_pi, sJ_pl, sJ_ai, sJ_al1, sJ_al2, Nat.reduceEqDiff, if_true, if_false, ne_eq, not_false_eq_true, ite_true, ite_false]
      have m50 : ∀ k, mff (mPop μ a' b') k 6 = sI μ8 150 k := fun k => by simp only [mff, mPop, μ8, sF_pi, sF_pl, sF_ai, sF_al, sG_pi, sG_pl, sG_ai, sG_al, sI_pi, sI_pl, sI_al, sI_ai1, sI_ai2, sJ_pi, sJ_pl, sJ_ai, sJ_al1, sJ_al2, Nat.reduceEqDiff, if_true, if_false, ne_eq, not_false_eq_true, ite_true, ite_false]
      have m51 : ∀ k, mff (mPop μ a' b') k 7 = sI μ8 151 k := fun k => by simp only [mff, mPop, μ8, sF_pi, sF_pl, sF_ai, sF_al, sG_pi, sG_pl, sG_ai, sG_al, sI_pi, sI_pl, sI_al, sI_ai1, sI_ai2, sJ_pi, sJ_pl, sJ_ai, sJ_al1, sJ_al2, Nat.reduceEqDiff, if_true, if_false, ne_eq, not_false_eq_true, ite_true, ite_false]
      rw [m49, m50, m51] at E2
      rw [q44] at E3
      have m0 : (sF μ8 154).toInt.toNat < n := by
        have : (sI μ 162 d).toInt ≤ (sF μ 154).toInt := by omega
        omega
      have kb2 := BC_kb E1.2.2.2.2.2.1
      simp only at kb2
      have E2k := FL_LK E2
      have bw : xx6_unwind_b52 (eN e) = xx6_unwind_b52 (eN e) := rfl
      have x28 : sI τ 328 c = 0 ∨ sI τ 328 c = 1 := by rcases E3 with q | q; exact .inl q.1; exact .inr q.1
      rcases E3 with ⟨w1, w2⟩ | ⟨w1, w2⟩
      · -- resume gets false and the error's value
        obtain ⟨s1, s2, s3, u1, u2, u3, y1, y2, y3, y4, y5, y6, y7, y8', y8, y9⟩ := giveE_2 (N := eN e) (σ := σ2) (μ := μ8) th2
        have z154 : sF u3 154 = sF μ8 154 := mf_F y9 rfl
        have lt3 := ME_lt E1 (vK_l y8) (vM_l y9)
        have V4 := SV_lt V3 (vK_l y8) (vM_l y9) (by rw [mf_F y8 rfl]; exact V3.2.2.2.2.1)
        have E2' := FL_lt E2 ⟨kb2.1, by lia, kb2.2.2.1, kb2.2.2.2.1⟩ (vK_l y8) (vM_l y9)
        have i162 : sI u3 162 d2 = sI μ8 162 d2 := mf_I y9 rfl
        have i161 : sI u3 161 d2 = sI μ8 161 d2 := mf_I y9 rfl
        rw [← i162, ← i161, ← z154] at E2'
        have g2 : (2 : Int32).toInt = 2 := rfl
        obtain ⟨rx, μ', i1, i2, i3, i4⟩ := IG _ m0 w xf' c2 d2 rest s3 u3 2 _ dd (j - 1) (eN e) (by rw [z154]; omega) lt3 V4 E2' y7 (by decide) (by rw [mf_F y8 rfl]; exact F2) (by rw [z154, e154]; lia) (by rw [z154, t1, g2]; omega) (by rw [z154]; omega) (by rw [z154]; omega) (by omega)
        refine ⟨rx, μ', fun n2 h2 => ?_, fun nn k n' h1 h2 h3 => ?_, i4⟩
        · rw [mr n2 (by omega), ha]
          rw [← i1]
          have e49 : sI u3 149 (sF u3 154) = sI μ8 149 (sF u3 154) := mf_I y9 rfl
          have e50 : sI u3 150 (sF u3 154) = sI μ8 150 (sF u3 154) := mf_I y9 rfl
          have e51 : sI u3 151 (sF u3 154) = sI μ8 151 (sF u3 154) := mf_I y9 rfl
          simp only
          rw [← e49, ← e50, ← e51]
          have w2' : sI μ8 144 (sI μ 162 d - 1) = 2 := by rw [← e154, m44]; exact w2
          have z154' : sF u3 154 = sI μ 162 d - 1 := by rw [z154, e154]
          have q0 : 0 ≤ sF u3 154 := by rw [z154]; exact cl3.1
          have q1 : sF u3 154 < 256 := by rw [z154]; exact cl3.2
          rw [r39_r now.2 dlt.1 dlt.2 i60 r2.2.1 r2.2.2 b3'.1 b3'.2 rfl (μ8 := μ8) rfl, if_pos w2', y4]
          simp only [bd]
          rw [y5]
          simp only
          rw [y6]
          simp only
          rw [gd_in (by decide) q0 q1, gd_in (by decide) q0 q1, gd_in (by decide) q0 q1]
          cases (rc_finish (eN e) dd).2.1 u3 (sI u3 149 (sF u3 154)) (sI u3 150 (sF u3 154)) (sI u3 151 (sF u3 154)) <;> rfl
        · rw [xu nn (by omega)]
          have xx : xx6_unwind_b52 (eN e) (xx6_unwind_b0 (eN e) (nn - 1)) c τ = bx (xx6_give (eN e) s3 (sI τ 329 c) (sI τ 330 c) (sI τ 331 c)) (fun z4 => gd (zB ((1 : Int32))) (some (Except.ok ((1 : Int32), z4)))) := by
            have t3 : sF s2 403 = sF σ2 403 := mf_F y8' rfl
            have t4 : sG s2 404 = sG σ2 404 := mf_G y8' rfl
            rw [u52_r (by have := cc.2.1; lia) cc.2.2.1 t0 bk, if_pos w1]
            simp only [xx6_unwind_b216, lt, pi_same, xx6_unwind_b230]
            rw [if_pos trivial, y1]
            simp only [bd]
            rw [y2]
            simp only [bx, sF_fold, sG_fold, t3, t4]
            rw [y3]
          rw [xx]
          exact i3 k n' (by omega) h3
      · -- the function of wrap: the error goes on
        let σ3 := md_pi σ2 405 (lnH σ2 (xf' c2))
        have la2 := lah_2 hN E1 (by exact E2k) (by lia)
        have fx3 : m_fr ltX σ2 σ3 := mf_pi mf_rfl rfl
        have lt3 := ME_lt E1 fx3 (mf_rfl (σ := μ8))
        have V4 := SV_lt V3 fx3 (mf_rfl (σ := μ8)) (by simp only [σ3, sF_pi, sF_pl, sF_ai, sF_al, sG_pi, sG_pl, sG_ai, sG_al, sI_pi, sI_pl, sI_al, sI_ai1, sI_ai2, sJ_pi, sJ_pl, sJ_ai, sJ_al1, sJ_al2, Nat.reduceEqDiff, if_true, if_false, ne_eq, not_false_eq_true, ite_true, ite_false]; exact V3.2.2.2.2.1)
        have E2' := FL_lt E2 ⟨kb2.1, by lia, kb2.2.2.1, kb2.2.2.2.1⟩ fx3 (mf_rfl (σ := μ8))
        have l3 : lnH σ3 (xf' c2) = lnH σ2 (xf' c2) := lnH_0 (fun f _ => xcs_lt fx3) (fun m => mf_I fx3 (ltX_f (by omega)))
        obtain ⟨rx, μ', i1, i2, i3⟩ := IR _ m0 w xf' c2 d2 rest σ3 μ8 ty v dd (j - 1) (by omega) lt3 V4 (FL_UN E2') (FL_LK E2') (TH_fr (τ := σ3) th2 (mf_pi (P := fun k => k == 405) mf_rfl rfl) rfl rfl) (by rw [l3]; simp only [σ3, sF_pi, sF_pl, sF_ai, sF_al, sG_pi, sG_pl, sG_ai, sG_al, sI_pi, sI_pl, sI_al, sI_ai1, sI_ai2, sJ_pi, sJ_pl, sJ_ai, sJ_al1, sJ_al2, Nat.reduceEqDiff, if_true, if_false, ne_eq, not_false_eq_true, ite_true, ite_false]) (by simp only [σ3, sF_pi, sF_pl, sF_ai, sF_al, sG_pi, sG_pl, sG_ai, sG_al, sI_pi, sI_pl, sI_al, sI_ai1, sI_ai2, sJ_pi, sJ_pl, sJ_ai, sJ_al1, sJ_al2, Nat.reduceEqDiff, if_true, if_false, ne_eq, not_false_eq_true, ite_true, ite_false]; exact F2) (by rw [e154]; lia) (by rw [t1]; omega) (by omega) (by omega)
        refine ⟨rx, μ', fun n2 h2 => ?_, fun nn k n' h1 h2 h3 => ?_, i3⟩
        · rw [mr n2 (by omega), ha, ← i1 (n2 - 1) (by omega)]
          have w2' : ¬ sI μ8 144 (sI μ 162 d - 1) = 2 := by rw [← e154, m44, w2]; decide
          rw [r39_r now.2 dlt.1 dlt.2 i60 r2.2.1 r2.2.2 b3'.1 b3'.2 rfl (μ8 := μ8) rfl, if_neg w2']
        · rw [xu nn (by omega), ← i2 (nn - 1) k n' (by omega) (by omega) h3]
          have xx : xx6_unwind_b52 (eN e) (xx6_unwind_b0 (eN e) (nn - 1)) c τ = xx6_unwind_b0 (eN e) (nn - 1) σ3 := by
            rw [u52_r (by have := cc.2.1; lia) cc.2.2.1 t0 bk, if_neg (by rw [w1]; decide), la2.1]
            simp only [bd, xx6_unwind_b216, lt, xx6_unwind_b230]
            rw [if_neg (by decide)]
          rw [xx]
  · -- a guard gets false and the error's value
    have t0 := top_1 M1.2.2.2.1 cc1.1 hx
    obtain ⟨τ2, p1, p2, p3, p4, p5⟩ := pop_2 (N := eN e) M1 V1 hx (by rw [g162, g154]; exact ha)
    rw [g154, g155, mPop_2] at p2 p3
    have bb : b' - 1 = sF μ 155 - (sF μ 154 - (a' - 1)) := by lia
    rw [bb] at p2 p3
    let μ2 := mPop μ (a' - 1) (sF μ 155 - (sF μ 154 - (a' - 1)))
    have fm2 : m_fr (fun k => [154, 155].contains k) μ μ2 := mf_pi (mf_pi mf_rfl rfl) rfl
    have e154 : sF μ2 154 = a' - 1 := by simp only [μ2, mPop, sF_pi, sF_pl, sF_ai, sF_al, sG_pi, sG_pl, sG_ai, sG_al, sI_pi, sI_pl, sI_al, sI_ai1, sI_ai2, sJ_pi, sJ_pl, sJ_ai, sJ_al1, sJ_al2, Nat.reduceEqDiff, if_true, if_false, ne_eq, not_false_eq_true, ite_true, ite_false]
    have t1 : (sF μ2 154).toInt = a'.toInt - 1 := by rw [e154]; exact tI_dec ha
    have ale' : a'.toInt ≤ (sF μ 154).toInt := by rw [tI_le] at ale; exact ale
    have alt' : (sI μ 162 d).toInt < a'.toInt := by rw [tI_lt] at ha; exact ha
    have th2 : TH w τ2 ty v := TH_fr th1 p4 rfl rfl
    obtain ⟨s1, s2, s3, u1, u2, u3, y1, y2, y3, y4, y5, y6, y7, y8', y8, y9⟩ := giveE_2 (N := eN e) (σ := τ2) (μ := μ2) th2
    have FL2 : FL (eS e) w τ2 (mff μ2) (sI μ2 141) (sJ μ2 142) (btO d) (sI μ2 162 d) (sI μ2 161 d) fl2 (sF μ2 154) (ctO τ (mff μ) g (a' - 1)) := by
      rw [e154, mf_I (k := 162) fm2 rfl, mf_I (k := 161) fm2 rfl]
      exact FL_cg gF ⟨kb'.1, by lia, kb'.2.2.1, kb'.2.2.2.1⟩ wle_rfl (fun g _ => p5 g) (cds_fr p4 rfl rfl rfl) (fun k j _ _ hj => mf_I fm2 (by
        simp only [List.contains_cons, List.contains_nil, Bool.or_eq_false_iff, beq_eq_false_iff_ne]
        (repeat' (first | exact trivial | omega | apply And.intro)))) (fun _ _ _ => ⟨mf_I fm2 rfl, mf_J fm2 rfl⟩)
    have FL3 : FL (eS e) w τ2 (mff μ2) (sI μ2 141) (sJ μ2 142) (btO d) (sI μ2 162 d) (sI μ2 161 d) (fU xf' c fl2 c) (sF μ2 154) (ctO τ (mff μ) g (a' - 1)) := by rw [fU_s]; exact FL2
    have z154 : sF u3 154 = sF μ2 154 := mf_F y9 rfl
    have lt3 := ME_lt p2 (vK_l y8) (vM_l y9)
    have V4 := SV_lt p3 (vK_l y8) (vM_l y9) (by rw [mf_F y8 rfl]; exact p3.2.2.2.2.1)
    have kb2 := BC_kb p2.2.2.2.2.2.1
    simp only at kb2
    have E2' := FL_lt FL3 ⟨kb2.1, by lia, kb2.2.2.1, kb2.2.2.2.1⟩ (vK_l y8) (vM_l y9)
    have i162 : sI u3 162 d = sI μ2 162 d := mf_I y9 rfl
    have i161 : sI u3 161 d = sI μ2 161 d := mf_I y9 rfl
    rw [← i162, ← i161, ← z154] at E2'
    have m0 : (sF μ2 154).toInt.toNat < n := by omega
    have g2 : (2 : Int32).toInt = 2 := rfl
    obtain ⟨rx, μ', i1, i2, i3, i4⟩ := IG _ m0 w (fU xf' c fl2) c d rest s3 u3 2 _ dd (j - 1) (eN e) (by rw [z154]; omega) lt3 V4 E2' y7 (by decide) (by rw [mf_F y8 rfl, mf_F p4 rfl]; exact F1) (by rw [z154, e154]; lia) (by rw [z154, t1, g2]; omega) (by rw [z154]; omega) (by rw [z154]; omega) (by omega)
    refine ⟨rx, μ', fun n2 h2 => ?_, fun nn k n' h1 h2 h3 => ?_, i4⟩
    · rw [mr n2 (by omega), ← i1]
      have e49 : sI u3 149 (a' - 1) = mff μ (a' - 1) 5 := by rw [mf_I y9 rfl, mf_I fm2 rfl]; rfl
      have e50 : sI u3 150 (a' - 1) = mff μ (a' - 1) 6 := by rw [mf_I y9 rfl, mf_I fm2 rfl]; rfl
      have e51 : sI u3 151 (a' - 1) = mff μ (a' - 1) 7 := by rw [mf_I y9 rfl, mf_I fm2 rfl]; rfl
      rw [r39_g now.2 cc.2.2.2.1 cc.2.2.2.2.1 kb'.1 ha (by lia) y4 y5 y6, e49, e50, e51]
      rfl
    · rw [xu nn (by omega)]
      have xx : xx6_unwind_b52 (eN e) (xx6_unwind_b0 (eN e) (nn - 1)) c τ = bx (xx6_give (eN e) s3 (sI τ 350 g) (sI τ 351 g) (sI τ 352 g)) (fun z4 => gd (zB ((1 : Int32))) (some (Except.ok ((1 : Int32), z4)))) := by
        exact u52_g cc.2.1 cc.2.2.1 t0 gr.1 gr.2 p1 y1 y2 (mf_F y8' rfl) (mf_G y8' rfl) y3
      rw [xx]
      exact i3 k n' (by omega) h3
theorem GFR {e : EV} (E : EVok e) {M : Nat} {F n0 : Int32} (G : HG e M F n0) (hM : M + 1 < eN e) : ∀ n, GFst e M F n0 n ∧ RAst e M F n0 n := by
  intro n
  induction n using Nat.strongRecOn with
  | _ n ih => exact ⟨GF_step E G hM (fun m h => (ih m h).1) (fun m h => (ih m h).2), RA_step E hM (fun m h => (ih m h).1) (fun m h => (ih m h).2)⟩
