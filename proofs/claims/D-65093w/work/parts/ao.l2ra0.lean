/-! LAYER 2: errors go down: single steps -/
theorem r39_g {N : Nat} {T : ty_finish} {r0 : Int32 → Int64 → mS → Option mS} {ty d a : Int32} {v : Int64} {μ u1 u2 u3 : mS} (hd : sF μ 172 = d) (d0 : 0 ≤ d) (d1 : d < 121) (k0 : 0 ≤ sI μ 162 d) (ha : sI μ 162 d < a) (a1 : a ≤ 200) (y4 : mm_giveNothing N (md_pi (md_pi μ 155 (sF μ 155 - (sF μ 154 - (a - 1)))) 154 (a - 1)) = some u1) (y5 : mm_giveValue N u1 1 0 = some u2) (y6 : mm_giveValue N u2 ty v = some u3) : mm_raise_39 N T r0 ty v (a - 1) μ = T.2.1 u3 (sI u3 149 (a - 1)) (sI u3 150 (a - 1)) (sI u3 151 (a - 1)) := by
  have c1 : ¬ a - 1 < sI μ 162 d := by lia
  have c2 : 0 ≤ a - 1 := by lia
  have c3 : a - 1 < 256 := by lia
  rw [mm_raise_39]
  simp only [sF_fold, sI_fold, hd]
  rw [gd_in (by decide) d0 d1, if_neg c1]
  simp only [lt, sF_fold, sF_pi, Nat.reduceEqDiff, if_false]
  rw [y4]
  simp only [bd]
  rw [y5]
  simp only
  rw [y6]
  simp only
  rw [gd_in (by decide) c2 c3, gd_in (by decide) c2 c3, gd_in (by decide) c2 c3]
  cases T.2.1 u3 (sI u3 149 (a - 1)) (sI u3 150 (a - 1)) (sI u3 151 (a - 1)) <;> rfl
theorem u52_g {N : Nat} {r0 : mS → Option (Except (Nat × mS) (Int32 × mS))} {c g : Int32} {τ τ2 s1 s2 s3 : mS} (c0 : 0 ≤ c) (c1 : c < 121) (t0 : sI τ 326 c = g) (g0 : 0 ≤ g) (g1 : g < 202) (p1 : xx5_pop N τ c = some τ2) (y1 : xx6_clearGives N τ2 = some s1) (y2 : xx6_giveOne N s1 1 0 = some (.ok s2)) (t3 : sF s2 403 = sF τ2 403) (t4 : sG s2 404 = sG τ2 404) (y3 : xx6_giveOne N s2 (sF τ2 403) (sG τ2 404) = some (.ok s3)) : xx6_unwind_b52 N r0 c τ = bx (xx6_give N s3 (sI τ 350 g) (sI τ 351 g) (sI τ 352 g)) (fun z4 => gd (zB ((1 : Int32))) (some (Except.ok ((1 : Int32), z4)))) := by
  have gn : ¬ g = -1 := by lia
  have hg : ∀ {α : Type} {k : Option α}, gd (inB g 202) k = k := gd_in (by decide) g0 g1
  simp only [xx6_unwind_b52, sI_fold]
  rw [gd_in (by decide) c0 c1]
  simp only [lt, t0]
  rw [if_neg gn]
  simp only [xx6_unwind_b73]
  rw [if_neg gn]
  simp only [xx6_unwind_b94, xx6_unwind_b95]
  rw [if_neg gn, hg]
  simp only [xx6_unwind_b122]
  rw [if_neg gn, hg]
  simp only [xx6_unwind_b150]
  rw [if_neg gn, hg]
  simp only [xx6_unwind_b178]
  rw [if_neg gn, p1]
  simp only [bd, xx6_unwind_b230]
  rw [if_pos trivial, y1]
  simp only
  rw [y2]
  simp only [bx, sF_fold, sG_fold, t3, t4, sI_fold]
  rw [y3]
theorem r39_r {N : Nat} {T : ty_finish} {r0 : Int32 → Int64 → mS → Option mS} {ty d d2 a : Int32} {v : Int64} {μ μ8 : mS} (hd : sF μ 172 = d) (d0 : 0 ≤ d) (d1 : d < 120) (i60 : sI μ 160 d = d2) (e0 : 0 ≤ d2) (e1 : d2 < 121) (k0 : 1 ≤ sI μ 162 d) (k1 : sI μ 162 d ≤ 256) (ha : a = sI μ 162 d) (h8 : μ8 = md_pi (md_pi (md_ai (md_pi (md_ai (md_pi (md_pi μ 155 (sF μ 155 - (sF μ 154 - sI μ 162 d))) 154 (sI μ 162 d)) 156 d.toNatClampNeg 3) 172 d2) 156 d2.toNatClampNeg 1) 154 (sI μ 162 d - 1)) 155 (sF μ 155 - (sF μ 154 - sI μ 162 d) - 1)) : mm_raise_39 N T r0 ty v (a - 1) μ = (if sI μ8 144 (sI μ 162 d - 1) = 2 then bd (mm_giveNothing N μ8) (fun z9 => bd (mm_giveValue N z9 ((1 : Int32)) ((0 : Int64))) (fun z10 => bd (mm_giveValue N z10 ty v) (fun z11 => gd (inB (sF z11 154) 256) (gd (inB (sF z11 154) 256) (gd (inB (sF z11 154) 256) (bd (T.2.1 z11 (sI z11 149 (sF z11 154)) (sI z11 150 (sF z11 154)) (sI z11 151 (sF z11 154))) (fun z12 => some z12))))))) else r0 ty v μ8) := by
  have c1 : a - 1 < sI μ 162 d := by lia
  have c2 : ¬ d = 120 := by lia
  have nb3 : vp_nar .byte (3 : Int32) = 3 := nar_tg (by decide) (by decide)
  have nb1 : vp_nar .byte (1 : Int32) = 1 := nar_tg (by decide) (by decide)
  have c3 : 0 ≤ sI μ 162 d - 1 := by lia
  have c4 : sI μ 162 d - 1 < 256 := by lia
  have hg : ∀ {α : Type} {k : Option α}, gd (inB d 121) k = k := gd_in (by decide) d0 (by lia)
  have hg2 : ∀ {α : Type} {k : Option α}, gd (inB d2 121) k = k := gd_in (by decide) e0 e1
  rw [h8, mm_raise_39]
  simp only [sF_fold, sI_fold, hd]
  rw [hg, if_pos c1, if_neg c2]
  simp (disch := decide) only [lt, sF_fold, sI_fold, sF_pi, sF_ai, sI_pi, sI_ai1, Nat.reduceEqDiff, if_false, if_true, hd, hg, hg2, i60, nb3, nb1]
  rw [gd_in (by decide) c3 c4]
theorem u52_r {N : Nat} {r0 : mS → Option (Except (Nat × mS) (Int32 × mS))} {c : Int32} {τ σ2 : mS} (c0 : 0 < c) (c1 : c < 121) (t0 : sI τ 326 c = -1) (bk : xx6_back N (md_ai τ 323 c.toNatClampNeg 3) c = some σ2) : xx6_unwind_b52 N r0 c τ = (if sI τ 328 c = 0 then xx6_unwind_b216 N r0 0 (sI τ 329 c) (sI τ 330 c) (sI τ 331 c) (sF σ2 405) σ2 else bd (xx6_lineAtHand N σ2) (fun z9 => xx6_unwind_b216 N r0 1 (sI τ 329 c) (sI τ 330 c) (sI τ 331 c) z9.1 z9.2)) := by
  have cn : ¬ c = 0 := by lia
  have nb3 : vp_nar .byte (3 : Int32) = 3 := nar_tg (by decide) (by decide)
  have hg : ∀ {α : Type} {k : Option α}, gd (inB c 121) k = k := gd_in (by decide) (by lia) c1
  have m1 : (-1 : Int32) = -1 := rfl
  simp only [xx6_unwind_b52, sI_fold]
  rw [hg]
  simp only [lt, t0]
  rw [if_pos trivial, if_neg cn]
  simp only [xx6_unwind_b73]
  rw [if_pos trivial, hg]
  have key : ∀ v3 : Int32, xx6_unwind_b95 N r0 c (-1) v3 τ = (if v3 = 0 then xx6_unwind_b216 N r0 v3 (sI τ 329 c) (sI τ 330 c) (sI τ 331 c) (sF σ2 405) σ2 else bd (xx6_lineAtHand N σ2) (fun z9 => xx6_unwind_b216 N r0 v3 (sI τ 329 c) (sI τ 330 c) (sI τ 331 c) z9.1 z9.2)) := fun v3 => by
    simp only [xx6_unwind_b95]
    rw [if_pos trivial, hg]
    simp only [xx6_unwind_b122]
    rw [if_pos trivial, hg]
    simp only [xx6_unwind_b150]
    rw [if_pos trivial, hg]
    simp only [xx6_unwind_b178]
    rw [if_pos trivial, hg]
    simp only [lt, nb3]
    rw [bk]
    simp only [bd, sF_fold, sI_fold]
  by_cases h : sI τ 328 c = 0
  · rw [if_pos h]
    simp only [sI_fold]
    rw [if_pos h]
    simp only [xx6_unwind_b94]
    rw [key, if_pos rfl]
  · rw [if_neg h]
    simp only [sI_fold]
    rw [if_neg h, key, if_neg (by decide)]
theorem pi_same {σ : mS} {k : Nat} : md_pi σ k (sF σ k) = σ := by
  simp only [md_pi, sF]
  obtain ⟨z1, z2, z3, z4⟩ := σ
  simp only
  congr 1
  funext j
  by_cases h5 : j = k
  · subst h5; simp [upd_at]
  · simp [upd_at, h5]
