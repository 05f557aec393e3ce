/-! LAYER 2: step rules: LESS, LEAST -/
theorem sgn_c {r : Int32} : (sgn r < 0 ↔ r < 0) ∧ (sgn r = 0 ↔ r = 0) := by
  simp only [sgn]
  constructor
  · split
    · rename_i h; simp only [h, iff_true]; decide
    · rename_i h
      split
      · simp only [h, iff_false]; decide
      · simp only [h, iff_false]; decide
  · split
    · rename_i h
      constructor
      · intro q; exact absurd q (by decide)
      · intro q; rw [q] at h; exact absurd h (by decide)
    · split
      · rename_i h; simp only [h]
      · rename_i h; simp only [h, iff_false]; decide
theorem st_278 {N : Nat} {r b : Int32} {σ : mS} : bd (xx6_setTruth N σ r b) (fun z => xx6_compare_b217 N z) = bd (xx6_setTruth N σ r b) (fun z => some (.ok z)) := rfl
theorem pu_239 {N : Nat} {v : Int64} {σ : mS} : mm_compare_239 N 1 v σ = mm_push N σ 1 v := bd_me (fun z => rfl)
theorem cmp_less {e : EV} {w : WD} {xf : Int32 → List Int32} {c d : Int32} {rest : PL2} {f : Int32} {fl : List Int32} {ρ : List Int32} {g p q F n : Int32} {σ μ : mS} {M rk : Nat} {ρA : List Int32} {mA gA pA qA P a b r live : Int32} {σ0 μ0 : mS} (C : CXT e M F n rk) (hk : rk ≤ 2000000) (zk' : zk e g ρ) (S : ST e w xf c d rest f fl ρ (-1) g p q F n σ (md_pi μ 143 P)) (L : LE σ (mff μ) f (n - 1)) (V : LVd σ f ρ live) (P0 : 0 ≤ P) (P1 : P ≤ 480000) (a0 : 0 ≤ a) (aR : a < sI (eσ e) 261 g) (b0 : 0 ≤ b) (bR : b < sI (eσ e) 261 g) (w1 : VV w (xt σ f a) (xv σ f a) (sI μ 141 P) (sJ μ 142 P)) (w2 : VV w (xt σ f b) (xv σ f b) (sI μ 141 (P + 1)) (sJ μ 142 (P + 1))) (top : sF μ 143 = P + 2) (ok : okr ρ r 1 (sI (eσ e) 261 g)) (Lo : lo e rk g p q (ρ ++ [r]) (-1)) (A0 : PT e w xf c d rest f fl ρA mA gA pA qA F n σ0 μ0) (hx : xx6_step (eN e) σ0 = xx6_compare (eN e) σ 52 r a b live) (hm : mm_act (eN e) μ0 = mm_compare_89 (eN e) P (P + 1) 1 μ) : Good e (M + 3000) σ0 μ0 := by
  obtain ⟨E, hM, Z, _, _, G, _, _⟩ := id C
  have bb := bnd3 P0 P1
  have t1 := VV_t w1
  have t2 := VV_t w2
  have H0 := (MR_pi S.1).1
  have e141 : ∀ i : Int32, μ.2.2.1 141 i.toNatClampNeg = sI μ 141 i := fun i => rfl
  have e142 : ∀ i : Int32, μ.2.2.2 142 i.toNatClampNeg = sJ μ 142 i := fun i => rfl
  have fin : ∀ b' : Int32, (b' = 0 ∨ b' = 1) → xx6_step (eN e) σ0 = bd (xx6_setTruth (eN e) σ r b') (fun z => some (.ok z)) → mm_act (eN e) μ0 = mm_push (eN e) (md_pi μ 143 P) 1 (Int32.toInt64 b') → Good e (M + 3000) σ0 μ0 := fun b' hb hx hm => truth_S (s := 303) G S zk' ok hb (.inl ⟨rfl, rfl⟩) (.inl ⟨rfl, Lo⟩) (PT_0 A0).1 (PT_0 A0).2 hx hm
  have hd : xx6_step (eN e) σ0 = xx6_compare_b155 (eN e) 52 r a b live (xt σ f a) (xt σ f b) σ → mm_act (eN e) μ0 = mm_compare_243 (eN e) P (P + 1) 1 μ → Good e (M + 3000) σ0 μ0 := by
    intro hx hm
    have ct : ctS (eS e) (sI (eσ e) 261 g) g p q ρ 2 r 1 1 1 := .inr (.inr (.inr (.inr (.inl ⟨rfl, rfl, ok, lo_S hk Lo⟩))))
    rw [mm_compare_243, gd_in (by decide) bb.1.1 bb.1.2, e141, lt, gd_in (by decide) bb.2.1.1 bb.2.1.2, e141, lt, if_neg (by decide), mm_compare_277] at hm
    rw [xx6_compare_b155, if_pos rfl, xx6_compare_b172] at hx
    rcases eh_2 (th := 1) C zk' S L V P0 P1 a0 aR b0 bR w1 w2 top rfl rfl rfl rfl (k := 6) (by decide) ct with ⟨i1, i2⟩ | ⟨h, τ', ⟨h0, h1'⟩, i1, i2, G2⟩
    · have i1' : xx6_eitherHandler (eN e) σ a b 6 = some (-1, σ) := i1
      have i2' : mm_callHandler (eN e) μ P (μ.1 211) 1 = some (0, gt μ 0 0) := i2
      have S3 := ST_gt (c' := 0) (d' := 0) S
      rw [i1', bd_so, if_pos rfl] at hx
      rw [i2', bd_so, if_pos rfl] at hm
      exact good_UO C A0 hx hm (faultTT_UO E (UK_pi S3.1 (show LE σ (mff (gt μ 0 0)) f (n - 1) from L)) w1 w2 (fun z => rfl)) S.1.2.2.2.2.1 S3.1.2.2.2.2.2
    · have i1' : xx6_eitherHandler (eN e) σ a b 6 = some (h, σ) := i1
      have i2' : mm_callHandler (eN e) μ P (μ.1 211) 1 = bd (mm_call (eN e) τ' P 2 1 1) (fun z6 => gd (zB 1) (some ((1, z6) : Int32 × mS))) := i2
      have hne : ¬ h = -1 := fun q => by rw [q] at h0; exact absurd h0 (by decide)
      rw [i1', bd_so, if_neg hne, (rd_r S a0 aR).2, bd_so, (rd_r S b0 bR).2, bd_so] at hx
      rw [i2', kk_1 (fun z => by rw [if_neg n10]; rfl)] at hm
      exact good_G A0 (hx.trans (bx_me (fun z => rfl))) hm G2
  have h84 : xx6_step (eN e) σ0 = xx6_compare_b84 (eN e) 52 r a b live (xt σ f a) (xt σ f b) σ → mm_act (eN e) μ0 = mm_compare_116 (eN e) P (P + 1) 1 0 μ → Good e (M + 3000) σ0 μ0 := by
    intro hx hm
    rw [mm_compare_116, if_pos rfl, gd_in (by decide) bb.1.1 bb.1.2, e141] at hm
    rw [xx6_compare_b84] at hx
    by_cases ca : xt σ f a = 4
    · rw [if_pos ca] at hx
      rw [if_pos (t1.2.2.1.mp ca), gd_in (by decide) bb.2.1.1 bb.2.1.2, e141] at hm
      by_cases cb : xt σ f b = 4
      · obtain ⟨rr, s1, s2⟩ := cmpS_2 (EV_N E) H0.1.1.1.2.1 w1 w2 ca cb
        rw [if_pos cb, (rd_r S a0 aR).2, bd_so, (rd_r S b0 bR).2, bd_so, s1, bd_so, if_pos rfl] at hx
        rw [if_pos (t2.2.2.1.mp cb), mm_compare_143, if_pos rfl, gd_in (by decide) bb.1.1 bb.1.2, gd_in (by decide) bb.2.1.1 bb.2.1.2, e142, e142, s2, bd_so, mm_compare_210, lt] at hm
        have sc := sgn_c (r := rr)
        by_cases cr : 0 ≤ rr
        · rw [if_pos cr] at hx
          refine fin 0 (.inl rfl) (hx.trans ?_) (hm.trans ?_)
          · rw [xx6_compare_b149]; exact bd_cg (fun z => rfl)
          · by_cases c0 : rr = 0
            · rw [if_neg (fun q => Int32.lt_irrefl (Int32.lt_of_lt_of_le (sc.1.mp q) cr)), if_pos (sc.2.mpr c0), if_neg (by decide)]; exact pu_239
            · rw [if_neg (fun q => Int32.lt_irrefl (Int32.lt_of_lt_of_le (sc.1.mp q) cr)), if_neg (fun q => c0 (sc.2.mp q))]; exact pu_239
        · rw [if_neg cr] at hx
          refine fin 1 (.inr rfl) (hx.trans ?_) (hm.trans ?_)
          · rw [xx6_compare_b149]; exact bd_cg (fun z => rfl)
          · rw [if_pos (sc.1.mpr (Int32.not_le.mp cr))]; exact pu_239
      · rw [if_neg cb] at hx
        rw [if_neg (fun q => cb (t2.2.2.1.mpr q))] at hm
        exact hd hx hm
    · rw [if_neg ca] at hx
      rw [if_neg (fun q => ca (t1.2.2.1.mpr q))] at hm
      exact hd hx hm
  rw [xx6_compare, (rd_r S a0 aR).1, bd_so, (rd_r S b0 bR).1, bd_so] at hx
  rw [mm_compare_89, gd_in (by decide) bb.1.1 bb.1.2, e141] at hm
  by_cases ca : xt σ f a = 3
  · rw [if_pos ca] at hx
    rw [if_pos (t1.2.1.mp ca), gd_in (by decide) bb.2.1.1 bb.2.1.2, e141] at hm
    by_cases cb : xt σ f b = 3
    · rw [ca, t1.2.1.mp ca] at w1
      rw [cb, t2.2.1.mp cb] at w2
      have ea := VV_3 w1
      have eb := VV_3 w2
      rw [if_pos cb, if_pos rfl, (rd_r S a0 aR).2, bd_so, (rd_r S b0 bR).2, bd_so, ea, eb] at hx
      rw [if_pos (t2.2.1.mp cb), mm_compare_116, if_neg n10, mm_compare_143, if_neg n10, gd_in (by decide) bb.1.1 bb.1.2, gd_in (by decide) bb.2.1.1 bb.2.1.2, gd_in (by decide) bb.1.1 bb.1.2, gd_in (by decide) bb.2.1.1 bb.2.1.2, e142, e142] at hm
      by_cases cr : 0 ≤ lg_cmp (sJ μ 142 P) (sJ μ 142 (P + 1))
      · rw [if_pos cr] at hx
        refine fin 0 (.inl rfl) (hx.trans ?_) (hm.trans ?_)
        · rw [xx6_compare_b78]; exact bd_cg (fun z => rfl)
        · rw [if_pos cr]
          split
          · rw [mm_compare_210, lt, if_neg (by decide), if_pos rfl, if_neg (by decide)]; exact pu_239
          · rw [mm_compare_210, lt, if_neg (by decide), if_neg (by decide)]; exact pu_239
      · rw [if_neg cr] at hx
        refine fin 1 (.inr rfl) (hx.trans ?_) (hm.trans ?_)
        · rw [xx6_compare_b78]; exact bd_cg (fun z => rfl)
        · rw [if_neg cr, mm_compare_210, lt, if_pos (by decide)]; exact pu_239
    · rw [if_neg cb] at hx
      rw [if_neg (fun q => cb (t2.2.1.mpr q)), mm_compare_115] at hm
      exact h84 hx hm
  · rw [if_neg ca] at hx
    rw [if_neg (fun q => ca (t1.2.1.mpr q)), mm_compare_115] at hm
    exact h84 hx hm
theorem cmp_least {e : EV} {w : WD} {xf : Int32 → List Int32} {c d : Int32} {rest : PL2} {f : Int32} {fl : List Int32} {ρ : List Int32} {g p q F n : Int32} {σ μ : mS} {M rk : Nat} {ρA : List Int32} {mA gA pA qA P a b r live : Int32} {σ0 μ0 : mS} (C : CXT e M F n rk) (hk : rk ≤ 2000000) (zk' : zk e g ρ) (S : ST e w xf c d rest f fl ρ (-1) g p q F n σ (md_pi μ 143 P)) (L : LE σ (mff μ) f (n - 1)) (V : LVd σ f ρ live) (P0 : 0 ≤ P) (P1 : P ≤ 480000) (a0 : 0 ≤ a) (aR : a < sI (eσ e) 261 g) (b0 : 0 ≤ b) (bR : b < sI (eσ e) 261 g) (w1 : VV w (xt σ f a) (xv σ f a) (sI μ 141 P) (sJ μ 142 P)) (w2 : VV w (xt σ f b) (xv σ f b) (sI μ 141 (P + 1)) (sJ μ 142 (P + 1))) (top : sF μ 143 = P + 2) (ok : okr ρ r 1 (sI (eσ e) 261 g)) (Lo : lo e rk g p q (ρ ++ [r]) (-1)) (A0 : PT e w xf c d rest f fl ρA mA gA pA qA F n σ0 μ0) (hx : xx6_step (eN e) σ0 = xx6_compare (eN e) σ 53 r a b live) (hm : mm_act (eN e) μ0 = mm_compare_89 (eN e) P (P + 1) 0 μ) : Good e (M + 3000) σ0 μ0 := by
  obtain ⟨E, hM, Z, _, _, G, _, _⟩ := id C
  have bb := bnd3 P0 P1
  have t1 := VV_t w1
  have t2 := VV_t w2
  have H0 := (MR_pi S.1).1
  have e141 : ∀ i : Int32, μ.2.2.1 141 i.toNatClampNeg = sI μ 141 i := fun i => rfl
  have e142 : ∀ i : Int32, μ.2.2.2 142 i.toNatClampNeg = sJ μ 142 i := fun i => rfl
  have fin : ∀ b' : Int32, (b' = 0 ∨ b' = 1) → xx6_step (eN e) σ0 = bd (xx6_setTruth (eN e) σ r b') (fun z => some (.ok z)) → mm_act (eN e) μ0 = mm_push (eN e) (md_pi μ 143 P) 1 (Int32.toInt64 b') → Good e (M + 3000) σ0 μ0 := fun b' hb hx hm => truth_S (s := 303) G S zk' ok hb (.inl ⟨rfl, rfl⟩) (.inl ⟨rfl, Lo⟩) (PT_0 A0).1 (PT_0 A0).2 hx hm
  have hd : xx6_step (eN e) σ0 = xx6_compare_b155 (eN e) 53 r a b live (xt σ f a) (xt σ f b) σ → mm_act (eN e) μ0 = mm_compare_243 (eN e) P (P + 1) 0 μ → Good e (M + 3000) σ0 μ0 := by
    intro hx hm
    have ct : ctS (eS e) (sI (eσ e) 261 g) g p q ρ 2 r 1 1 1 := .inr (.inr (.inr (.inr (.inl ⟨rfl, rfl, ok, lo_S hk Lo⟩))))
    rw [mm_compare_243, gd_in (by decide) bb.1.1 bb.1.2, e141, lt, gd_in (by decide) bb.2.1.1 bb.2.1.2, e141, lt, if_pos rfl, mm_compare_277] at hm
    rw [xx6_compare_b155, if_neg (by decide), xx6_compare_b172] at hx
    rcases eh_2 (th := 1) C zk' S L V P0 P1 a0 aR b0 bR w1 w2 top rfl rfl rfl rfl (k := 7) (by decide) ct with ⟨i1, i2⟩ | ⟨h, τ', ⟨h0, h1'⟩, i1, i2, G2⟩
    · have i1' : xx6_eitherHandler (eN e) σ a b 7 = some (-1, σ) := i1
      have i2' : mm_callHandler (eN e) μ P (μ.1 212) 1 = some (0, gt μ 0 0) := i2
      have S3 := ST_gt (c' := 0) (d' := 0) S
      rw [i1', bd_so, if_pos rfl] at hx
      rw [i2', bd_so, if_pos rfl] at hm
      exact good_UO C A0 hx hm (faultTT_UO E (UK_pi S3.1 (show LE σ (mff (gt μ 0 0)) f (n - 1) from L)) w1 w2 (fun z => rfl)) S.1.2.2.2.2.1 S3.1.2.2.2.2.2
    · have i1' : xx6_eitherHandler (eN e) σ a b 7 = some (h, σ) := i1
      have i2' : mm_callHandler (eN e) μ P (μ.1 212) 1 = bd (mm_call (eN e) τ' P 2 1 1) (fun z6 => gd (zB 1) (some ((1, z6) : Int32 × mS))) := i2
      have hne : ¬ h = -1 := fun q => by rw [q] at h0; exact absurd h0 (by decide)
      rw [i1', bd_so, if_neg hne, (rd_r S a0 aR).2, bd_so, (rd_r S b0 bR).2, bd_so] at hx
      rw [i2', kk_1 (fun z => by rw [if_neg n10]; rfl)] at hm
      exact good_G A0 (hx.trans (bx_me (fun z => rfl))) hm G2
  have h84 : xx6_step (eN e) σ0 = xx6_compare_b84 (eN e) 53 r a b live (xt σ f a) (xt σ f b) σ → mm_act (eN e) μ0 = mm_compare_116 (eN e) P (P + 1) 0 0 μ → Good e (M + 3000) σ0 μ0 := by
    intro hx hm
    rw [mm_compare_116, if_pos rfl, gd_in (by decide) bb.1.1 bb.1.2, e141] at hm
    rw [xx6_compare_b84] at hx
    by_cases ca : xt σ f a = 4
    · rw [if_pos ca] at hx
      rw [if_pos (t1.2.2.1.mp ca), gd_in (by decide) bb.2.1.1 bb.2.1.2, e141] at hm
      by_cases cb : xt σ f b = 4
      · obtain ⟨rr, s1, s2⟩ := cmpS_2 (EV_N E) H0.1.1.1.2.1 w1 w2 ca cb
        rw [if_pos cb, (rd_r S a0 aR).2, bd_so, (rd_r S b0 bR).2, bd_so, s1, bd_so, if_neg (by decide)] at hx
        rw [if_pos (t2.2.2.1.mp cb), mm_compare_143, if_pos rfl, gd_in (by decide) bb.1.1 bb.1.2, gd_in (by decide) bb.2.1.1 bb.2.1.2, e142, e142, s2, bd_so, mm_compare_210, lt] at hm
        have sc := sgn_c (r := rr)
        by_cases cr : 0 < rr
        · rw [if_pos cr] at hx
          refine fin 0 (.inl rfl) (hx.trans ?_) (hm.trans ?_)
          · rw [xx6_compare_b149]; exact bd_cg (fun z => rfl)
          · rw [if_neg (fun q => Int32.lt_irrefl (Int32.lt_trans (sc.1.mp q) cr)), if_neg (fun q => by rw [sc.2.mp q] at cr; exact Int32.lt_irrefl cr)]; exact pu_239
        · rw [if_neg cr] at hx
          refine fin 1 (.inr rfl) (hx.trans ?_) (hm.trans ?_)
          · rw [xx6_compare_b149]; exact bd_cg (fun z => rfl)
          · by_cases c0 : rr = 0
            · rw [if_neg (fun q => by have := sc.1.mp q; rw [c0] at this; exact absurd this (by decide)), if_pos (sc.2.mpr c0), if_pos rfl]; exact pu_239
            · rw [if_pos (sc.1.mpr (Int32.not_le.mp (fun q => cr (Int32.lt_of_le_of_ne q (fun z => c0 z.symm)))))]; exact pu_239
      · rw [if_neg cb] at hx
        rw [if_neg (fun q => cb (t2.2.2.1.mpr q))] at hm
        exact hd hx hm
    · rw [if_neg ca] at hx
      rw [if_neg (fun q => ca (t1.2.2.1.mpr q))] at hm
      exact hd hx hm
  rw [xx6_compare, (rd_r S a0 aR).1, bd_so, (rd_r S b0 bR).1, bd_so] at hx
  rw [mm_compare_89, gd_in (by decide) bb.1.1 bb.1.2, e141] at hm
  by_cases ca : xt σ f a = 3
  · rw [if_pos ca] at hx
    rw [if_pos (t1.2.1.mp ca), gd_in (by decide) bb.2.1.1 bb.2.1.2, e141] at hm
    by_cases cb : xt σ f b = 3
    · rw [ca, t1.2.1.mp ca] at w1
      rw [cb, t2.2.1.mp cb] at w2
      have ea := VV_3 w1
      have eb := VV_3 w2
      rw [if_pos cb, if_neg (by decide), (rd_r S a0 aR).2, bd_so, (rd_r S b0 bR).2, bd_so, ea, eb] at hx
      rw [if_pos (t2.2.1.mp cb), mm_compare_116, if_neg n10, mm_compare_143, if_neg n10, gd_in (by decide) bb.1.1 bb.1.2, gd_in (by decide) bb.2.1.1 bb.2.1.2, gd_in (by decide) bb.1.1 bb.1.2, gd_in (by decide) bb.2.1.1 bb.2.1.2, e142, e142] at hm
      by_cases cr : 0 < lg_cmp (sJ μ 142 P) (sJ μ 142 (P + 1))
      · rw [if_pos cr] at hx
        refine fin 0 (.inl rfl) (hx.trans ?_) (hm.trans ?_)
        · rw [xx6_compare_b78]; exact bd_cg (fun z => rfl)
        · rw [if_pos (Int32.le_of_lt cr), if_neg (fun q => Int32.lt_irrefl (Int32.lt_of_lt_of_le cr q)), mm_compare_210, lt, if_neg (by decide), if_neg (by decide)]; exact pu_239
      · rw [if_neg cr] at hx
        refine fin 1 (.inr rfl) (hx.trans ?_) (hm.trans ?_)
        · rw [xx6_compare_b78]; exact bd_cg (fun z => rfl)
        · by_cases c0 : 0 ≤ lg_cmp (sJ μ 142 P) (sJ μ 142 (P + 1))
          · rw [if_pos c0, if_pos (Int32.not_lt.mp cr), mm_compare_210, lt, if_neg (by decide), if_pos rfl, if_pos rfl]; exact pu_239
          · rw [if_neg c0, mm_compare_210, lt, if_pos (by decide)]; exact pu_239
    · rw [if_neg cb] at hx
      rw [if_neg (fun q => cb (t2.2.1.mpr q)), mm_compare_115] at hm
      exact h84 hx hm
  · rw [if_neg ca] at hx
    rw [if_neg (fun q => ca (t1.2.1.mpr q)), mm_compare_115] at hm
    exact h84 hx hm
