/-! LAYER 2: one step of the two machines: what comes first -/
def stepF (N : Nat) (x8 x7 : Int32) (σ11 : mS) : Option (Except (Nat × mS) (mS)) := (if (x8 : Int32) < ((40 : Int32) : Int32) then (if (x8 : Int32) = (0 : Int32) then bx (xx6_takeFuel N σ11 ) (fun z13 => xx6_step_b793 N z13) else (if (x8 : Int32) = (1 : Int32) then xx6_step_b242 N N (x7) ((0 : Int32)) σ11 else (if (x8 : Int32) = (2 : Int32) then gd (inB ((x7 + (1 : Int32))) 340000) (gd (inB ((x7 + (2 : Int32))) 340000) ((if ((σ11.2.2.1 256 (Int32.toNatClampNeg ((x7 + (2 : Int32))))) : Int32) = ((1 : Int32) : Int32) then xx6_step_b295 N ((σ11.2.2.1 256 (Int32.toNatClampNeg ((x7 + (1 : Int32)))))) ((1 : Int32)) σ11 else xx6_step_b295 N ((σ11.2.2.1 256 (Int32.toNatClampNeg ((x7 + (1 : Int32)))))) ((0 : Int32)) σ11))) else (if (x8 : Int32) = (3 : Int32) then gd (inB ((x7 + (1 : Int32))) 340000) (gd (inB ((x7 + (2 : Int32))) 340000) (gd (inB ((x7 + (3 : Int32))) 340000) (bd (xx6_set N σ11 ((σ11.2.2.1 256 (Int32.toNatClampNeg ((x7 + (1 : Int32)))))) ((3 : Int32)) ((((Int32.toInt64 ((σ11.2.2.1 256 (Int32.toNatClampNeg ((x7 + (2 : Int32))))))) <<< ((Int32.toInt64 ((32 : Int32))) &&& 63)) ||| ((Int32.toInt64 ((σ11.2.2.1 256 (Int32.toNatClampNeg ((x7 + (3 : Int32))))))) &&& (4294967295 : Int64))))) (fun z14 => xx6_step_b793 N z14)))) else (if (x8 : Int32) = (4 : Int32) then gd (inB ((x7 + (1 : Int32))) 340000) (gd (inB ((x7 + (2 : Int32))) 340000) (bd (xx6_set N σ11 ((σ11.2.2.1 256 (Int32.toNatClampNeg ((x7 + (1 : Int32)))))) ((4 : Int32)) ((Int32.toInt64 ((σ11.2.2.1 256 (Int32.toNatClampNeg ((x7 + (2 : Int32))))))))) (fun z15 => xx6_step_b793 N z15))) else (if (x8 : Int32) = (5 : Int32) then gd (inB ((x7 + (1 : Int32))) 340000) (gd (inB ((x7 + (2 : Int32))) 340000) (bd (xx6_copy N σ11 ((σ11.2.2.1 256 (Int32.toNatClampNeg ((x7 + (1 : Int32)))))) ((σ11.2.2.1 256 (Int32.toNatClampNeg ((x7 + (2 : Int32))))))) (fun z16 => xx6_step_b793 N z16))) else (if (x8 : Int32) = (6 : Int32) then bx (xx6_rare N σ11 (x8) (256) (x7)) (fun z17 => xx6_step_b793 N z17) else (if (x8 : Int32) = (7 : Int32) then bx (xx6_rare N σ11 (x8) (256) (x7)) (fun z18 => xx6_step_b793 N z18) else (if (x8 : Int32) = (8 : Int32) then bx (xx6_rare N σ11 (x8) (256) (x7)) (fun z19 => xx6_step_b793 N z19) else (if (x8 : Int32) = (9 : Int32) then bx (xx6_rare N σ11 (x8) (256) (x7)) (fun z20 => xx6_step_b793 N z20) else (if (x8 : Int32) = (10 : Int32) then bx (xx6_rare N σ11 (x8) (256) (x7)) (fun z21 => xx6_step_b793 N z21) else (if (x8 : Int32) = (11 : Int32) then gd (inB ((x7 + (2 : Int32))) 340000) (gd (inB ((x7 + (1 : Int32))) 340000) (gd (inB ((x7 + (3 : Int32))) 340000) (bx (xx6_index N σ11 ((5 : Int32)) ((Int32.toInt64 ((σ11.1 395)))) ((4 : Int32)) ((Int32.toInt64 ((σ11.2.2.1 256 (Int32.toNatClampNeg ((x7 + (2 : Int32)))))))) ((σ11.2.2.1 256 (Int32.toNatClampNeg ((x7 + (1 : Int32)))))) ((σ11.2.2.1 256 (Int32.toNatClampNeg ((x7 + (3 : Int32))))))) (fun z22 => xx6_step_b793 N z22)))) else (if (x8 : Int32) = (12 : Int32) then gd (inB ((x7 + (1 : Int32))) 340000) (gd (inB ((x7 + (2 : Int32))) 340000) (gd (inB ((x7 + (3 : Int32))) 340000) (bx (xx6_setGlobal N σ11 ((σ11.2.2.1 256 (Int32.toNatClampNeg ((x7 + (1 : Int32)))))) ((σ11.2.2.1 256 (Int32.toNatClampNeg ((x7 + (2 : Int32)))))) ((σ11.2.2.1 256 (Int32.toNatClampNeg ((x7 + (3 : Int32))))))) (fun z23 => xx6_step_b793 N z23)))) else (if (x8 : Int32) = (13 : Int32) then gd (inB ((x7 + (2 : Int32))) 340000) (bd (xx6_tag N σ11 ((σ11.2.2.1 256 (Int32.toNatClampNeg ((x7 + (2 : Int32))))))) (fun z24 => gd (inB ((x7 + (2 : Int32))) 340000) (bd (xx6_value N z24.2 ((z24.2.2.2.1 256 (Int32.toNatClampNeg ((x7 + (2 : Int32))))))) (fun z25 => gd (inB ((x7 + (3 : Int32))) 340000) (bd (xx6_tag N z25.2 ((z25.2.2.2.1 256 (Int32.toNatClampNeg ((x7 + (3 : Int32))))))) (fun z26 => gd (inB ((x7 + (3 : Int32))) 340000) (bd (xx6_value N z26.2 ((z26.2.2.2.1 256 (Int32.toNatClampNeg ((x7 + (3 : Int32))))))) (fun z27 => gd (inB ((x7 + (1 : Int32))) 340000) (gd (inB ((x7 + (4 : Int32))) 340000) (bx (xx6_index N z27.2 (z24.1) (z25.1) (z26.1) (z27.1) ((z27.2.2.2.1 256 (Int32.toNatClampNeg ((x7 + (1 : Int32)))))) ((z27.2.2.2.1 256 (Int32.toNatClampNeg ((x7 + (4 : Int32))))))) (fun z28 => xx6_step_b793 N z28))))))))))) else (if (x8 : Int32) = (14 : Int32) then gd (inB ((x7 + (1 : Int32))) 340000) (gd (inB ((x7 + (2 : Int32))) 340000) (gd (inB ((x7 + (3 : Int32))) 340000) (gd (inB ((x7 + (4 : Int32))) 340000) (bx (xx6_put N σ11 ((σ11.2.2.1 256 (Int32.toNatClampNeg ((x7 + (1 : Int32)))))) ((σ11.2.2.1 256 (Int32.toNatClampNeg ((x7 + (2 : Int32)))))) ((σ11.2.2.1 256 (Int32.toNatClampNeg ((x7 + (3 : Int32)))))) ((σ11.2.2.1 256 (Int32.toNatClampNeg ((x7 + (4 : Int32))))))) (fun z29 => xx6_step_b793 N z29))))) else (if (x8 : Int32) = (15 : Int32) then gd (inB ((x7 + (1 : Int32))) 340000) (gd (inB ((x7 + (2 : Int32))) 340000) (gd (inB ((x7 + (3 : Int32))) 340000) (bx (xx6_self N σ11 ((σ11.2.2.1 256 (Int32.toNatClampNeg ((x7 + (1 : Int32)))))) ((σ11.2.2.1 256 (Int32.toNatClampNeg ((x7 + (2 : Int32)))))) ((σ11.2.2.1 256 (Int32.toNatClampNeg ((x7 + (3 : Int32))))))) (fun z30 => xx6_step_b793 N z30)))) else (if (x8 : Int32) = (16 : Int32) then bx (xx6_rare N σ11 (x8) (256) (x7)) (fun z31 => xx6_step_b793 N z31) else (if (x8 : Int32) = (17 : Int32) then bx (xx6_rare N σ11 (x8) (256) (x7)) (fun z32 => xx6_step_b793 N z32) else (if (x8 : Int32) = (18 : Int32) then bx (xx6_rare N σ11 (x8) (256) (x7)) (fun z33 => xx6_step_b793 N z33) else (if (x8 : Int32) = (19 : Int32) then bx (xx6_rare N σ11 (x8) (256) (x7)) (fun z34 => xx6_step_b793 N z34) else (if (x8 : Int32) = (20 : Int32) then gd (inB ((x7 + (1 : Int32))) 340000) (gd (inB ((x7 + (2 : Int32))) 340000) (bd (xx6_tag N σ11 ((σ11.2.2.1 256 (Int32.toNatClampNeg ((x7 + (2 : Int32))))))) (fun z35 => bd (xx6_isTrue N z35.2 (z35.1)) (fun z36 => (if (z36.1 : Int32) = 0 then xx6_step_b396 N ((σ11.2.2.1 256 (Int32.toNatClampNeg ((x7 + (1 : Int32)))))) ((1 : Int32)) z36.2 else xx6_step_b396 N ((σ11.2.2.1 256 (Int32.toNatClampNeg ((x7 + (1 : Int32)))))) ((0 : Int32)) z36.2))))) else (if (x8 : Int32) = (21 : Int32) then gd (inB ((x7 + (1 : Int32))) 340000) (gd (inB ((σ11.1 411)) 202) (lt (md_ai σ11 346 (Int32.toNatClampNeg ((σ11.1 411))) ((σ11.2.2.1 256 (Int32.toNatClampNeg ((x7 + (1 : Int32))))))) (fun σ37 : mS => xx6_step_b793 N σ37))) else (if (x8 : Int32) = (22 : Int32) then gd (inB ((x7 + (1 : Int32))) 340000) (bd (xx6_tag N σ11 ((σ11.2.2.1 256 (Int32.toNatClampNeg ((x7 + (1 : Int32))))))) (fun z38 => bd (xx6_isTrue N z38.2 (z38.1)) (fun z39 => (if (z39.1 : Int32) = 0 then gd (inB ((x7 + (2 : Int32))) 340000) (gd (inB ((z39.2.1 411)) 202) (lt (md_ai z39.2 346 (Int32.toNatClampNeg ((z39.2.1 411))) ((z39.2.2.2.1 256 (Int32.toNatClampNeg ((x7 + (2 : Int32))))))) (fun σ40 : mS => xx6_step_b793 N σ40))) else xx6_step_b793 N z39.2)))) else (if (x8 : Int32) = (23 : Int32) then gd (inB ((x7 + (1 : Int32))) 340000) (bd (xx6_tag N σ11 ((σ11.2.2.1 256 (Int32.toNatClampNeg ((x7 + (1 : Int32))))))) (fun z41 => bd (xx6_isTrue N z41.2 (z41.1)) (fun z42 => (if (z42.1 : Int32) = 0 then xx6_step_b793 N z42.2 else gd (inB ((x7 + (2 : Int32))) 340000) (gd (inB ((z42.2.1 411)) 202) (lt (md_ai z42.2 346 (Int32.toNatClampNeg ((z42.2.1 411))) ((z42.2.2.2.1 256 (Int32.toNatClampNeg ((x7 + (2 : Int32))))))) (fun σ43 : mS => xx6_step_b793 N σ43))))))) else (if (x8 : Int32) = (24 : Int32) then gd (inB ((x7 + (1 : Int32))) 340000) (gd (inB ((x7 + (2 : Int32))) 340000) (bd (xx6_gather N σ11 ((σ11.2.2.1 256 (Int32.toNatClampNeg ((x7 + (1 : Int32)))))) ((σ11.2.2.1 256 (Int32.toNatClampNeg ((x7 + (2 : Int32))))))) (fun z44 => gd (inB ((x7 + (1 : Int32))) 340000) (gd (inB ((z44.1 411)) 202) (lt (md_ai z44 353 (Int32.toNatClampNeg ((z44.1 411))) ((z44.2.2.1 256 (Int32.toNatClampNeg ((x7 + (1 : Int32))))))) (fun σ45 : mS => gd (inB ((x7 + (1 : Int32))) 340000) (bd (xx6_tag N σ45 ((σ45.2.2.1 256 (Int32.toNatClampNeg ((x7 + (1 : Int32))))))) (fun z46 => gd (inB ((x7 + (1 : Int32))) 340000) (bd (xx6_value N z46.2 ((z46.2.2.2.1 256 (Int32.toNatClampNeg ((x7 + (1 : Int32))))))) (fun z47 => gd (inB ((x7 + (1 : Int32))) 340000) (gd (inB ((x7 + (3 : Int32))) 340000) (bx (xx6_begin N z47.2 (z46.1) (z47.1) ((0 : Int32)) ((z47.2.2.2.1 256 (Int32.toNatClampNeg ((x7 + (1 : Int32)))))) ((z47.2.2.2.1 256 (Int32.toNatClampNeg ((x7 + (3 : Int32))))))) (fun z48 => xx6_step_b793 N z48))))))))))))) else (if (x8 : Int32) = (25 : Int32) then gd (inB ((x7 + (1 : Int32))) 340000) (gd (inB ((x7 + (2 : Int32))) 340000) (bd (xx6_gather N σ11 ((σ11.2.2.1 256 (Int32.toNatClampNeg ((x7 + (1 : Int32)))))) ((σ11.2.2.1 256 (Int32.toNatClampNeg ((x7 + (2 : Int32))))))) (fun z49 => gd (inB ((x7 + (1 : Int32))) 340000) (bd (xx6_tag N z49 ((z49.2.2.1 256 (Int32.toNatClampNeg ((x7 + (1 : Int32))))))) (fun z50 => gd (inB ((x7 + (1 : Int32))) 340000) (bd (xx6_value N z50.2 ((z50.2.2.2.1 256 (Int32.toNatClampNeg ((x7 + (1 : Int32))))))) (fun z51 => bx (xx6_tail N z51.2 (z50.1) (z51.1)) (fun z52 => xx6_step_b793 N z52)))))))) else (if (x8 : Int32) = (26 : Int32) then gd (inB ((x7 + (1 : Int32))) 340000) (gd (inB ((x7 + (2 : Int32))) 340000) (bx (xx6_giveBack N σ11 ((σ11.2.2.1 256 (Int32.toNatClampNeg ((x7 + (1 : Int32)))))) ((σ11.2.2.1 256 (Int32.toNatClampNeg ((x7 + (2 : Int32))))))) (fun z53 => xx6_step_b793 N z53))) else (if (x8 : Int32) = (27 : Int32) then gd (inB ((x7 + (1 : Int32))) 340000) (gd (inB ((x7 + (2 : Int32))) 340000) (bd (xx6_others N σ11 ((σ11.2.2.1 256 (Int32.toNatClampNeg ((x7 + (1 : Int32)))))) ((σ11.2.2.1 256 (Int32.toNatClampNeg ((x7 + (2 : Int32))))))) (fun z54 => xx6_step_b793 N z54))) else bx (xx6_rare N σ11 (x8) (256) (x7)) (fun z12 => xx6_step_b793 N z12))))))))))))))))))))))))))))) else bx (xx6_signs N σ11 (x8) (256) (x7)) (fun z55 => some (Except.ok (z55))))
def xP (σ : mS) (f p wd : Int32) : mS := md_ai (md_ai (md_pi (md_pi σ 411 f) 410 (sI σ 347 f)) 345 f.toNatClampNeg p) 346 f.toNatClampNeg (p + wd)
theorem xP_fr {σ : mS} {f p wd : Int32} : m_fr (fun k => [345, 346, 410, 411].contains k) σ (xP σ f p wd) := mf_ai (mf_ai (mf_pi (mf_pi mf_rfl rfl) rfl) rfl) rfl
theorem xP_410 {σ : mS} {f p wd : Int32} : sF (xP σ f p wd) 410 = sI σ 347 f := by simp only [xP, sF_pi, sF_pl, sF_ai, sF_al, sG_pi, sG_pl, sG_ai, sG_al, sI_pi, sI_pl, sI_al, sI_ai1, sI_ai2, sJ_pi, sJ_pl, sJ_ai, sJ_al1, sJ_al2, Nat.reduceEqDiff, if_true, if_false, ne_eq, not_false_eq_true, ite_true, ite_false]
theorem xP_411 {σ : mS} {f p wd : Int32} : sF (xP σ f p wd) 411 = f := by simp only [xP, sF_pi, sF_pl, sF_ai, sF_al, sG_pi, sG_pl, sG_ai, sG_al, sI_pi, sI_pl, sI_al, sI_ai1, sI_ai2, sJ_pi, sJ_pl, sJ_ai, sJ_al1, sJ_al2, Nat.reduceEqDiff, if_true, if_false, ne_eq, not_false_eq_true, ite_true, ite_false]
theorem sI_aj {σ : mS} {k : Nat} {i m v : Int32} (i0 : 0 ≤ i) (m0 : 0 ≤ m) : sI (md_ai σ k i.toNatClampNeg v) k m = if m = i then v else sI σ k m := by
  simp only [sI]
  rw [ai_I, if_pos rfl, upd_cl i0 m0]
theorem xP_345 {σ : mS} {f p wd g : Int32} (f0 : 0 ≤ f) (g0 : 0 ≤ g) : sI (xP σ f p wd) 345 g = if g = f then p else sI σ 345 g := by
  rw [xP, sI_ai1 (by decide), sI_aj f0 g0]
  rfl
theorem xP_346 {σ : mS} {f p wd g : Int32} (f0 : 0 ≤ f) (g0 : 0 ≤ g) : sI (xP σ f p wd) 346 g = if g = f then p + wd else sI σ 346 g := by
  rw [xP, sI_aj f0 g0]
  rfl
theorem step_x {N : Nat} {σ : mS} {c f p op wd : Int32} (hc : sF σ 339 = c) (c0 : 0 ≤ c) (c1 : c < 121) (hf : sI σ 326 c = f) (f0 : 0 ≤ f) (f1 : f < 202) (hp : sI σ 346 f = p) (p0 : 0 ≤ p) (p1 : p < 340000) (ho : sI σ 256 p = op) (hw : ∀ s, xx0_width N s op = some (wd, s)) : xx6_step N σ = stepF N op p (xP σ f p wd) := by
  have e1 : (md_pi σ 411 f).1 411 = f := rfl
  have e2 : (md_pi (md_pi σ 411 f) 410 (sI σ 347 f)).1 411 = f := rfl
  have e3 : (md_pi (md_pi σ 411 f) 410 (sI σ 347 f)).2.2.1 346 f.toNatClampNeg = p := hp
  have e4 : (md_pi (md_pi σ 411 f) 410 (sI σ 347 f)).2.2.1 256 p.toNatClampNeg = op := ho
  have e5 : (md_ai (md_pi (md_pi σ 411 f) 410 (sI σ 347 f)) 345 f.toNatClampNeg p).1 411 = f := rfl
  have e6 : (md_pi σ 411 f).2.2.1 347 f.toNatClampNeg = sI σ 347 f := rfl
  have e7 : σ.2.2.1 326 c.toNatClampNeg = f := hf
  have hc' : σ.1 339 = c := hc
  rw [xx6_step, hc', gd_in (by decide) c0 c1, e7, lt, e1, gd_in (by decide) f0 f1, e6, lt, e2, gd_in (by decide) f0 f1, e3, lt, gd_in (by decide) p0 p1, e4, lt, gd_in (by decide) f0 f1, lt, hw, bd_so, e5, gd_in (by decide) f0 f1]
  rfl
/-- the reference's act: what comes first -/
def actP (μ : mS) (k q : Int32) : mS := if 0 < sI μ 74 q ∧ sI μ 70 q ≠ 28 then md_ai (md_ai μ 146 k.toNatClampNeg (q + 1)) 152 k.toNatClampNeg (sI μ 74 q) else md_ai μ 146 k.toNatClampNeg (q + 1)
theorem actP_fr {μ : mS} {k q : Int32} : m_fr (fun k => [146, 152].contains k) μ (actP μ k q) := by
  rw [actP]
  split
  · exact mf_ai (mf_ai mf_rfl rfl) rfl
  · exact mf_ai mf_rfl rfl
theorem actP_146 {μ : mS} {k q i : Int32} (k0 : 0 ≤ k) (i0 : 0 ≤ i) : sI (actP μ k q) 146 i = if i = k then q + 1 else sI μ 146 i := by
  rw [actP]
  split
  · rw [sI_ai1 (by decide), sI_aj k0 i0]
  · rw [sI_aj k0 i0]
theorem actP_152 {μ : mS} {k q i : Int32} (k0 : 0 ≤ k) (i0 : 0 ≤ i) : sI (actP μ k q) 152 i = if i = k ∧ 0 < sI μ 74 q ∧ sI μ 70 q ≠ 28 then sI μ 74 q else sI μ 152 i := by
  rw [actP]
  by_cases c : 0 < sI μ 74 q ∧ sI μ 70 q ≠ 28
  · rw [if_pos c, sI_aj k0 i0]
    by_cases e : i = k
    · rw [if_pos e, if_pos ⟨e, c⟩]
    · rw [if_neg e, if_neg (fun h => e h.1), sI_ai1 (by decide)]
  · rw [if_neg c, if_neg (fun h => c h.2), sI_ai1 (by decide)]
theorem act_x {N : Nat} {μ : mS} {n k q : Int32} (hn : sF μ 154 = n) (hk : n - 1 = k) (k0 : 0 ≤ k) (k1 : k < 256) (hq : sI μ 146 k = q) (q0 : 0 ≤ q) (q1 : q < 160000) : mm_act N μ = mm_act_79 N k q (sI μ 147 k) (sI μ 71 q) (sI μ 72 q) (actP μ k q) := by
  have e1 : μ.1 154 - 1 = k := by rw [← hk, ← hn]; rfl
  have e2 : μ.2.2.1 146 k.toNatClampNeg = q := hq
  have e3 : (md_ai μ 146 k.toNatClampNeg (q + 1)).2.2.1 147 k.toNatClampNeg = sI μ 147 k := rfl
  have e4 : (md_ai μ 146 k.toNatClampNeg (q + 1)).2.2.1 71 q.toNatClampNeg = sI μ 71 q := rfl
  have e5 : (md_ai μ 146 k.toNatClampNeg (q + 1)).2.2.1 72 q.toNatClampNeg = sI μ 72 q := rfl
  have e6 : (md_ai μ 146 k.toNatClampNeg (q + 1)).2.2.1 74 q.toNatClampNeg = sI μ 74 q := rfl
  have e7 : (md_ai μ 146 k.toNatClampNeg (q + 1)).2.2.1 70 q.toNatClampNeg = sI μ 70 q := rfl
  rw [mm_act, e1, lt, gd_in (by decide) k0 k1, e2, lt, gd_in (by decide) k0 k1, gd_in (by decide) k0 k1, lt, gd_in (by decide) k0 k1, e3, lt, gd_in (by decide) q0 q1, e4, lt, gd_in (by decide) q0 q1, e5, lt, gd_in (by decide) q0 q1, e6, e7, actP]
  by_cases c : sI μ 74 q ≤ 0
  · rw [if_pos c, if_neg (fun h => Int32.not_le.mpr h.1 c)]
  · rw [if_neg c, gd_in (by decide) q0 q1]
    by_cases c2 : sI μ 70 q = 28
    · rw [if_pos c2, if_neg (fun h => h.2 c2)]
    · rw [if_neg c2, gd_in (by decide) q0 q1, gd_in (by decide) k0 k1, lt, if_pos ⟨Int32.not_le.mp c, c2⟩]
/-- one step on each side, or on one side alone -/
theorem good_b {e : EV} {j M : Nat} {σ μ : mS} {o : Option (Except (Nat × mS) mS)} {m : Option mS} (h406 : sF σ 406 = 0) (h178 : sF μ 178 = 0) (hx : xx6_step (eN e) σ = o) (hm : mm_act (eN e) μ = m) (G : G2 e j M o m) : Good e (M + 1) σ μ := by
  obtain ⟨rx, μ', g1, g2, g3, g4⟩ := G
  obtain ⟨rm, r1, r2⟩ := g4 μ' mf_rfl
  refine ⟨rx, rm, fun n n' hn hn' => ?_, fun k hk => ?_, r2⟩
  · obtain ⟨n, rfl⟩ : ∃ i, n = i + 1 := ⟨n - 1, by omega⟩
    rw [xx6_run_b60, sF_fold, if_pos h406, hx]
    exact g2 n n' (by omega) (by omega)
  · obtain ⟨k, rfl⟩ : ∃ i, k = i + 1 := ⟨k - 1, by omega⟩
    rw [mm_endRun_30, sF_fold, if_pos h178, hm, g1, bd_so]
    exact r1 k (by omega)
theorem good_2 {e : EV} {M : Nat} {σ μ τ τm : mS} (h406 : sF σ 406 = 0) (h178 : sF μ 178 = 0) (hx : xx6_step (eN e) σ = some (.ok τ)) (hm : mm_act (eN e) μ = some τm) (G : Good e M τ τm) : Good e (M + 1) σ μ := by
  obtain ⟨rx, rm, g1, g2, g3⟩ := G
  refine ⟨rx, rm, fun n n' hn hn' => ?_, fun k hk => ?_, g3⟩
  · obtain ⟨n, rfl⟩ : ∃ i, n = i + 1 := ⟨n - 1, by omega⟩
    rw [xx6_run_b60, sF_fold, if_pos h406, hx]
    exact g1 n n' (by omega) (by omega)
  · obtain ⟨k, rfl⟩ : ∃ i, k = i + 1 := ⟨k - 1, by omega⟩
    rw [mm_endRun_30, sF_fold, if_pos h178, hm, bd_so]
    exact g2 k (by omega)
theorem good_x {e : EV} {M : Nat} {σ μ τ : mS} (h406 : sF σ 406 = 0) (hx : xx6_step (eN e) σ = some (.ok τ)) (G : Good e M τ μ) : Good e (M + 1) σ μ := by
  obtain ⟨rx, rm, g1, g2, g3⟩ := G
  refine ⟨rx, rm, fun n n' hn hn' => ?_, ML_mono g2 (by omega), g3⟩
  obtain ⟨n, rfl⟩ : ∃ i, n = i + 1 := ⟨n - 1, by omega⟩
  rw [xx6_run_b60, sF_fold, if_pos h406, hx]
  exact g1 n n' (by omega) (by omega)
theorem good_m {e : EV} {M : Nat} {σ μ τm : mS} (h178 : sF μ 178 = 0) (hm : mm_act (eN e) μ = some τm) (G : Good e M σ τm) : Good e (M + 1) σ μ := by
  obtain ⟨rx, rm, g1, g2, g3⟩ := G
  refine ⟨rx, rm, XL_mono g1 (by omega), fun k hk => ?_, g3⟩
  obtain ⟨k, rfl⟩ : ∃ i, k = i + 1 := ⟨k - 1, by omega⟩
  rw [mm_endRun_30, sF_fold, if_pos h178, hm, bd_so]
  exact g2 k (by omega)
theorem Good_mono {e : EV} {M M' : Nat} {σ μ : mS} (G : Good e M σ μ) (h : M ≤ M') : Good e M' σ μ := by
  obtain ⟨rx, rm, g1, g2, g3⟩ := G
  exact ⟨rx, rm, XL_mono g1 h, ML_mono g2 h, g3⟩
/-- where the two machines are -/
def PT (e : EV) (w : WD) (xf : Int32 → List Int32) (c d : Int32) (rest : PL2) (f : Int32) (fl : List Int32) (ρ : List Int32) (m : Int32) (g p q F n : Int32) (σ μ : mS) : Prop := MR e w xf c d rest f fl ρ m σ μ ∧ sI σ 344 f = g ∧ sI σ 346 f = p ∧ mff μ (sF μ 154 - 1) 2 = q ∧ sF σ 396 = F ∧ sF μ 154 = n
/-- runs from lower ranks are well -/
def GK (e : EV) (M : Nat) (F n : Int32) (rk : Nat) : Prop := ∀ w xf c d rest f fl ρ m g p q r σ μ, PT e w xf c d rest f fl ρ m g p q F n σ μ → r < rk → eZ e r g p q ρ m → Good e M σ μ
/-- an instruction, an act -/
def opx (e : EV) (p k : Int32) : Prop := (0 ≤ p ∧ p < 339900) ∧ sI (eσ e) 256 p = k
def acm (e : EV) (q k : Int32) : Prop := (0 ≤ q ∧ q < 159900) ∧ sI (eμ e) 70 q = k
def nx (e : EV) (p : Int32) : Int32 := sI (eσ e) 256 p
/-- code stays as it was -/
theorem SV_cx {e : EV} {w : WD} {σ μ : mS} (V : SV e w σ μ) {k : Nat} (hk : 238 ≤ k ∧ k ≤ 322) (i : Int32) : sI σ k i = sI (eσ e) k i := mf_I V.1 (by
  simp only [xR, inR, Bool.or_eq_false_iff, Bool.and_eq_false_iff, decide_eq_false_iff_not]
  omega)
theorem SV_cm {e : EV} {w : WD} {σ μ : mS} (V : SV e w σ μ) {k : Nat} (hk : 58 ≤ k ∧ k ≤ 140) (i : Int32) : sI μ k i = sI (eμ e) k i := mf_I V.2.1 (by
  simp only [mR, inR, Bool.or_eq_false_iff, Bool.and_eq_false_iff, decide_eq_false_iff_not]
  omega)
theorem PT_V {e : EV} {w : WD} {xf : Int32 → List Int32} {c d : Int32} {rest : PL2} {f : Int32} {fl : List Int32} {ρ : List Int32} {m : Int32} {g p q F n : Int32} {σ μ : mS} (A : PT e w xf c d rest f fl ρ m g p q F n σ μ) : SV e w σ μ := A.1.1.2.1
theorem PT_0 {e : EV} {w : WD} {xf : Int32 → List Int32} {c d : Int32} {rest : PL2} {f : Int32} {fl : List Int32} {ρ : List Int32} {m : Int32} {g p q F n : Int32} {σ μ : mS} (A : PT e w xf c d rest f fl ρ m g p q F n σ μ) : sF σ 406 = 0 ∧ sF μ 178 = 0 := ⟨A.1.1.2.1.2.2.2.2.1, A.1.1.1.2.2.2.2.2.2.2.2.2.2.2⟩
/-- both machines at their instruction and act -/
theorem PT_x {e : EV} {w : WD} {xf : Int32 → List Int32} {c d : Int32} {rest : PL2} {f : Int32} {fl : List Int32} {ρ : List Int32} {m : Int32} {g p q F n : Int32} {σ μ : mS} (A : PT e w xf c d rest f fl ρ m g p q F n σ μ) {op wd : Int32} (ho : opx e p op) (hw : ∀ s, xx0_width (eN e) s op = some (wd, s)) : xx6_step (eN e) σ = stepF (eN e) op p (xP σ f p wd) := by
  obtain ⟨⟨H, T⟩, a1, a2, a3, a4, a5⟩ := A
  have hc := ME_c H.1
  have X := H.1.2.2.2.1
  obtain ⟨fc, bl, h1, h2, _⟩ := X
  have s := h2 c hc.1
  rw [H.2.2.1] at s
  have f01 := H.2.2.2.2.2.1.1
  exact step_x H.1.2.2.2.2.2.2.1.1 hc.2.1 hc.2.2.1 s.1 f01.1 f01.2 a2 ho.1.1 (Int32.lt_trans ho.1.2 (by decide)) (by rw [SV_cx H.2.1 (by omega)]; exact ho.2) hw
theorem at_1 {n : Int32} (h1 : 1 ≤ n) (h2 : n ≤ 200) : 0 ≤ n - 1 ∧ n - 1 < 256 := ⟨by lia, by lia⟩
theorem PT_m {e : EV} {w : WD} {xf : Int32 → List Int32} {c d : Int32} {rest : PL2} {f : Int32} {fl : List Int32} {ρ : List Int32} {m : Int32} {g p q F n : Int32} {σ μ : mS} (A : PT e w xf c d rest f fl ρ m g p q F n σ μ) {k : Int32} (ha : acm e q k) : mm_act (eN e) μ = mm_act_79 (eN e) (n - 1) q (mff μ (n - 1) 3) (sI (eμ e) 71 q) (sI (eμ e) 72 q) (actP μ (n - 1) q) := by
  obtain ⟨⟨H, T⟩, a1, a2, a3, a4, a5⟩ := A
  have b := (MR0_f H).2.2.2.1
  rw [a5] at b a3
  have b' := at_1 b.1 b.2
  have r := act_x (N := eN e) (n := n) (k := n - 1) a5 rfl b'.1 b'.2 a3 ha.1.1 (Int32.lt_trans ha.1.2 (by decide))
  rw [SV_cm (k := 71) H.2.1 (by omega), SV_cm (k := 72) H.2.1 (by omega), show sI μ 147 (n - 1) = mff μ (n - 1) 3 from rfl] at r
  exact r

