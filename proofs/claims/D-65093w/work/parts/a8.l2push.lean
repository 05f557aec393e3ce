/-! LAYER 2: calls: registers come together; one more call -/
theorem sJ_cpl {σ : mS} {i j k : Nat} {sp dp n m : Int32} (h1 : 0 ≤ sp) (h2 : 0 ≤ dp) (h3 : 0 ≤ n) (h4 : 0 ≤ m) (h5 : sp ≤ sp + n) (h6 : dp ≤ dp + n) : sJ (x_cpl σ i sp j dp n) k m = if k = j ∧ dp ≤ m ∧ m < dp + n then sJ σ i (sp + (m - dp)) else sJ σ k m := by
  simp only [sJ, x_cpl, va_up]
  by_cases hk : k = j
  · subst hk
    simp only [if_true, va_cpy, true_and]
    have e1 := toNat_add h2 h3 h6
    by_cases hc : dp ≤ m ∧ m < dp + n
    · rw [if_pos hc]
      have e4 := toNat_add h2 (by lia : (0 : Int32) ≤ m - dp) (by lia)
      rw [show dp + (m - dp) = m by lia] at e4
      have e5 := toNat_add h1 (by lia : (0 : Int32) ≤ m - dp) (by lia)
      have e6 : m.toNatClampNeg < (dp + n).toNatClampNeg := by
        have h := hc.2
        have h' := hc.1
        rw [tI_lt] at h
        rw [tI_le] at h4
        rw [tI_cl, tI_cl]
        have h0 : (0 : Int32).toInt = 0 := rfl
        omega
      rw [if_pos (by omega), e5, show m.toNatClampNeg - dp.toNatClampNeg = (m - dp).toNatClampNeg by omega]
    · rw [if_neg hc]
      have e6 : m.toNatClampNeg < dp.toNatClampNeg ∨ (dp + n).toNatClampNeg ≤ m.toNatClampNeg := by
        rw [tI_cl, tI_cl, tI_cl]
        rcases (by lia : m < dp ∨ dp + n ≤ m) with h | h
        · rw [tI_lt] at h
          rw [tI_le] at h4
          have h0 : (0 : Int32).toInt = 0 := rfl
          omega
        · rw [tI_le] at h
          omega
      rw [if_neg (by omega)]
  · simp [hk]
theorem sF_cpl {σ : mS} {i j k : Nat} {sp dp n : Int32} : sF (x_cpl σ i sp j dp n) k = sF σ k := nrf rfl
theorem sG_cpl {σ : mS} {i j k : Nat} {sp dp n : Int32} : sG (x_cpl σ i sp j dp n) k = sG σ k := nrf rfl
theorem sI_cpl {σ : mS} {i j k : Nat} {sp dp n m : Int32} : sI (x_cpl σ i sp j dp n) k m = sI σ k m := nrf rfl
theorem mf_cp {P : Nat → Bool} {k i : Nat} {σ τ : mS} {sp dp n : Int32} (h : m_fr P σ τ) (hk : P k = true) : m_fr P σ (x_cp τ i sp k dp n) := ⟨h.1, h.2.1, fun j hj => by simp only [x_cp, va_up]; rw [if_neg (mf_ne hk hj)]; exact h.2.2.1 j hj, h.2.2.2⟩
theorem mf_cpl {P : Nat → Bool} {k i : Nat} {σ τ : mS} {sp dp n : Int32} (h : m_fr P σ τ) (hk : P k = true) : m_fr P σ (x_cpl τ i sp k dp n) := ⟨h.1, h.2.1, h.2.2.1, fun j hj => by simp only [x_cpl, va_up]; rw [if_neg (mf_ne hk hj)]; exact h.2.2.2 j hj⟩
theorem cB_n {p n M : Int32} {L : Nat} (hL : L < 2147483648) (hM : (OfNat.ofNat L : Int32) = M) (h0 : 0 ≤ p) (h1 : 0 ≤ n) (h2 : p ≤ p + n) (h3 : p + n ≤ M) : x_cB p n L = true := by
  have e : M.toInt = L := by rw [← hM]; exact lit_toInt hL
  have e2 : (p + n).toInt = p.toInt + n.toInt := by
    have t := toNat_add h0 h1 h2
    rw [tI_le] at h0 h1 h2
    rw [tI_cl, tI_cl, tI_cl] at t
    have z : (0 : Int32).toInt = 0 := rfl
    omega
  rw [tI_le] at h0 h1 h3
  have z : (0 : Int32).toInt = 0 := rfl
  simp only [x_cB, Bool.and_eq_true, decide_eq_true_eq]
  omega
theorem ln_364 : x_ln 364 = 560000 := by decide +kernel
theorem ln_365 : x_ln 365 = 560000 := by decide +kernel
theorem aB_364 : x_aB 4 364 = true := by decide +kernel
theorem aB_365 : x_aB 7 365 = true := by decide +kernel
def gK (k : Nat) : Bool := [347, 363, 364, 365].contains k
theorem tog_lp {N : Nat} : ∀ (l : List Int32) (σ : mS) (v lo u : Int32) (n : Nat), seg (sI σ 359) v l (-1) → OB (sI σ 347) (sI σ 349) lo l u → 0 ≤ sF σ 363 → sF σ 363 ≤ lo → lo ≤ 560000 → u ≤ 560000 → l.Nodup → (∀ x, x ∈ l → 0 ≤ x ∧ x < 202) → l.length < n → ∃ τ, xx5_together_b10 N n v σ = some τ ∧ m_fr gK σ τ ∧ (∀ g, g ∈ l → ∀ x, 0 ≤ x → x < sI σ 349 g → xt τ g x = xt σ g x ∧ xv τ g x = xv σ g x) ∧ OB (sI τ 347) (sI τ 349) (sF σ 363) l (sF τ 363) ∧ sF τ 363 ≤ u ∧ (sF τ 363).toInt ≤ (sF σ 363).toInt + 2600 * l.length ∧ (∀ k, 0 ≤ k → k < sF σ 363 → sI τ 364 k = sI σ 364 k ∧ sJ τ 365 k = sJ σ 365 k) ∧ (∀ g, 0 ≤ g → g ∉ l → sI τ 347 g = sI σ 347 g) := by
  intro l
  induction l with
  | nil =>
    intro σ v lo u n hs ho u0 u1 lo1 uu nd rg hn
    obtain ⟨n, rfl⟩ : ∃ j, n = j + 1 := ⟨n - 1, by simp at hn; omega⟩
    have : v = -1 := hs
    subst this
    have : lo = u := ho
    subst this
    refine ⟨σ, by simp (disch := decide) only [xx5_together_b10, if_pos], mf_rfl, fun g hg => absurd hg (by simp), rfl, u1, by simp, fun _ _ _ => ⟨rfl, rfl⟩, fun _ _ _ => rfl⟩
  | cons x l ih =>
    intro σ v lo u n hs ho u0 u1 lo1 uu nd rg hn
    obtain ⟨n, rfl⟩ : ∃ j, n = j + 1 := ⟨n - 1, by simp at hn; omega⟩
    obtain ⟨rfl, hs⟩ := hs
    obtain ⟨o1, o2, o3, o4, o5⟩ := ho
    obtain ⟨x0, x1⟩ := rg v List.mem_cons_self
    obtain ⟨nx, nd⟩ := List.nodup_cons.mp nd
    have olo : 0 ≤ sI σ 347 v + sI σ 349 v ∧ sI σ 347 v + sI σ 349 v ≤ 600000 := by lia
    obtain ⟨p1, p2, p3⟩ := OB_le o5 olo.1 olo.2
    have l4 : (OfNat.ofNat 560000 : Int32) = 560000 := rfl
    have c1 : x_cB (sI σ 347 v) (sI σ 349 v) 560000 = true := cB_n (by decide) l4 (by lia) (by lia) (by lia) (by lia)
    have c2 : x_cB (sF σ 363) (sI σ 349 v) 560000 = true := cB_n (by decide) l4 (by lia) (by lia) (by lia) (by lia)
    have e347 : ∀ (τ : mS) (m : Int32), sI (x_cp τ 364 (sI σ 347 v) 364 (sF σ 363) (sI σ 349 v)) 347 m = sI τ 347 m := fun τ m => sI_cp1 (by decide)
    have e349 : ∀ (τ : mS) (m : Int32), sI (x_cp τ 364 (sI σ 347 v) 364 (sF σ 363) (sI σ 349 v)) 349 m = sI τ 349 m := fun τ m => sI_cp1 (by decide)
    have e359 : ∀ (τ : mS) (m : Int32), sI (x_cp τ 364 (sI σ 347 v) 364 (sF σ 363) (sI σ 349 v)) 359 m = sI τ 359 m := fun τ m => sI_cp1 (by decide)
    simp (disch := lia) only [xx5_together_b10, lt, gd_in, if_pos, if_neg, ↓reduceIte, gd_z0, gd_z1, gd_tt, sF_fold, sG_fold, sI_fold, sJ_fold, sF_pi, sF_pl, sF_ai, sF_al, sG_pi, sG_pl, sG_ai, sG_al, sI_pi, sI_pl, sI_al, sI_ai1, sI_ai2, sJ_pi, sJ_pl, sJ_ai, sJ_al1, sJ_al2, Nat.reduceEqDiff, if_true, if_false, ne_eq, not_false_eq_true, ite_true, ite_false, ln_364, ln_365, aB_364, aB_365, c1, c2, e347, e349, e359, sI_cpl, sF_cpl, sF_cp, Bool.and_true]
    let σ4 := md_pi (md_ai (x_cpl (x_cp σ 364 (sI σ 347 v) 364 (sF σ 363) (sI σ 349 v)) 365 (sI σ 347 v) 365 (sF σ 363) (sI σ 349 v)) 347 v.toNatClampNeg (sF σ 363)) 363 (sF σ 363 + sI σ 349 v)
    have i364 : ∀ m, 0 ≤ m → sI σ4 364 m = if sF σ 363 ≤ m ∧ m < sF σ 363 + sI σ 349 v then sI σ 364 (sI σ 347 v + (m - sF σ 363)) else sI σ 364 m := fun m hm => by
      simp (disch := lia) only [σ4, sF_pi, sF_pl, sF_ai, sF_al, sG_pi, sG_pl, sG_ai, sG_al, sI_pi, sI_pl, sI_al, sI_ai1, sI_ai2, sJ_pi, sJ_pl, sJ_ai, sJ_al1, sJ_al2, Nat.reduceEqDiff, if_true, if_false, ne_eq, not_false_eq_true, ite_true, ite_false, sI_cpl]
      rw [sI_cp (by lia) (by lia) (by lia) hm (by lia) (by lia)]
      simp only [true_and]
    have j365 : ∀ m, 0 ≤ m → sJ σ4 365 m = if sF σ 363 ≤ m ∧ m < sF σ 363 + sI σ 349 v then sJ σ 365 (sI σ 347 v + (m - sF σ 363)) else sJ σ 365 m := fun m hm => by
      simp (disch := lia) only [σ4, sF_pi, sF_pl, sF_ai, sF_al, sG_pi, sG_pl, sG_ai, sG_al, sI_pi, sI_pl, sI_al, sI_ai1, sI_ai2, sJ_pi, sJ_pl, sJ_ai, sJ_al1, sJ_al2, Nat.reduceEqDiff, if_true, if_false, ne_eq, not_false_eq_true, ite_true, ite_false]
      rw [sJ_cpl (by lia) (by lia) (by lia) hm (by lia) (by lia)]
      simp only [true_and, sJ_cp]
    have i347 : ∀ m, 0 ≤ m → sI σ4 347 m = if m = v then sF σ 363 else sI σ 347 m := fun m hm => by
      simp (disch := lia) only [σ4, sF_pi, sF_pl, sF_ai, sF_al, sG_pi, sG_pl, sG_ai, sG_al, sI_pi, sI_pl, sI_al, sI_ai1, sI_ai2, sJ_pi, sJ_pl, sJ_ai, sJ_al1, sJ_al2, Nat.reduceEqDiff, if_true, if_false, ne_eq, not_false_eq_true, ite_true, ite_false, sI_ai x0 hm, true_and, sI_cpl, e347]
    have i349 : ∀ m, sI σ4 349 m = sI σ 349 m := fun m => by simp (disch := lia) only [σ4, sF_pi, sF_pl, sF_ai, sF_al, sG_pi, sG_pl, sG_ai, sG_al, sI_pi, sI_pl, sI_al, sI_ai1, sI_ai2, sJ_pi, sJ_pl, sJ_ai, sJ_al1, sJ_al2, Nat.reduceEqDiff, if_true, if_false, ne_eq, not_false_eq_true, ite_true, ite_false, sI_cpl, e349]
    have i359 : ∀ m, sI σ4 359 m = sI σ 359 m := fun m => by simp (disch := lia) only [σ4, sF_pi, sF_pl, sF_ai, sF_al, sG_pi, sG_pl, sG_ai, sG_al, sI_pi, sI_pl, sI_al, sI_ai1, sI_ai2, sJ_pi, sJ_pl, sJ_ai, sJ_al1, sJ_al2, Nat.reduceEqDiff, if_true, if_false, ne_eq, not_false_eq_true, ite_true, ite_false, sI_cpl, e359]
    have f363 : sF σ4 363 = sF σ 363 + sI σ 349 v := by simp only [σ4, sF_pi, sF_pl, sF_ai, sF_al, sG_pi, sG_pl, sG_ai, sG_al, sI_pi, sI_pl, sI_al, sI_ai1, sI_ai2, sJ_pi, sJ_pl, sJ_ai, sJ_al1, sJ_al2, Nat.reduceEqDiff, if_true, if_false, ne_eq, not_false_eq_true, ite_true, ite_false]
    have fr4 : m_fr gK σ σ4 := mf_pi (mf_ai (mf_cpl (mf_cp mf_rfl rfl) rfl) rfl) rfl
    have ne : ∀ g, g ∈ l → g ≠ v := fun g hg q => nx (by rw [← q]; exact hg)
    obtain ⟨τ, r1, r2, r3, r4, r5, r6, r7, r8⟩ := ih σ4 (sI σ 359 v) (sI σ 347 v + sI σ 349 v) u n (seg_congr hs (fun y _ => i359 y)) (OB_cg o5 (fun y hy => ⟨by rw [i347 y (rg y (List.mem_cons_of_mem _ hy)).1, if_neg (ne y hy)], i349 y⟩)) (by rw [f363]; lia) (by rw [f363]; lia) (by lia) uu nd (fun y hy => rg y (List.mem_cons_of_mem _ hy)) (by simp at hn; omega)
    have b347 : sI τ 347 v = sF σ 363 := by rw [r8 v x0 nx, i347 v x0, if_pos rfl]
    have t349 : sI τ 349 v = sI σ 349 v := by rw [mf_I r2 rfl, i349]
    refine ⟨τ, r1, mf_tr fr4 r2, fun g hg y y0 y1 => ?_, ⟨?_, ?_, ?_, ?_, ?_⟩, r5, ?_, fun k k0 k1 => ?_, fun g g0 hg => ?_⟩
    · rcases List.mem_cons.mp hg with q | q
      · subst q
        simp only [xt, xv]
        rw [b347]
        have k1 : sF σ 363 + y < sF σ4 363 := by rw [f363]; lia
        rw [(r7 _ (by lia) k1).1, (r7 _ (by lia) k1).2, i364 _ (by lia), j365 _ (by lia), if_pos (by lia), if_pos (by lia), show sI σ 347 g + (sF σ 363 + y - sF σ 363) = sI σ 347 g + y by lia]
        exact ⟨rfl, rfl⟩
      · have gr := rg g (List.mem_cons_of_mem _ q)
        have pg := p3 g q
        obtain ⟨a1, a2⟩ := r3 g q y y0 (by rw [i349]; exact y1)
        rw [a1, a2]
        simp only [xt, xv]
        rw [i347 g gr.1, if_neg (ne g q), i364 _ (by lia), j365 _ (by lia), if_neg (by lia), if_neg (by lia)]
        exact ⟨rfl, rfl⟩
    · rw [b347]; lia
    · rw [t349]; exact o2
    · rw [t349]; exact o3
    · rw [b347]; lia
    · rw [b347, t349, ← f363]; exact r4
    · rw [f363] at r6
      have e : (sF σ 363 + sI σ 349 v).toInt = (sF σ 363).toInt + (sI σ 349 v).toInt := by
        have t := toNat_add u0 (by lia : (0 : Int32) ≤ sI σ 349 v) (by lia)
        have : 0 ≤ sF σ 363 + sI σ 349 v := by lia
        rw [tI_le] at u0 this
        have h2 : (0 : Int32) ≤ sI σ 349 v := by lia
        rw [tI_le] at h2
        have z : (0 : Int32).toInt = 0 := rfl
        rw [tI_cl, tI_cl, tI_cl] at t
        omega
      rw [tI_le] at o3
      have z : (2600 : Int32).toInt = 2600 := rfl
      simp only [List.length_cons]
      omega
    · have k2 : k < sF σ4 363 := by rw [f363]; lia
      rw [(r7 k k0 k2).1, (r7 k k0 k2).2, i364 k k0, j365 k k0, if_neg (by lia), if_neg (by lia)]
      exact ⟨rfl, rfl⟩
    · rw [r8 g g0 (fun q => hg (List.mem_cons_of_mem _ q)), i347 g g0, if_neg (fun q => hg (by rw [q]; exact List.mem_cons_self))]
theorem tog_x {N : Nat} (hN : BIG ≤ N) {σ : mS} {bl : List Int32} (B : BLK σ bl) (nd : bl.Nodup) (rg : ∀ x, x ∈ bl → 0 ≤ x ∧ x < 202) (len : bl.length ≤ 202) : ∃ τ, xx5_together N σ = some τ ∧ BLK τ bl ∧ m_fr gK σ τ ∧ (∀ g, g ∈ bl → ∀ x, 0 ≤ x → x < sI σ 349 g → xt τ g x = xt σ g x ∧ xv τ g x = xv σ g x) ∧ (sF τ 363).toInt ≤ 2600 * bl.length := by
  obtain ⟨b1, b2, b3, b4⟩ := B
  have f0 : sF (md_pi σ 363 0) 363 = 0 := by simp only [sF_pi, sF_pl, sF_ai, sF_al, sG_pi, sG_pl, sG_ai, sG_al, sI_pi, sI_pl, sI_al, sI_ai1, sI_ai2, sJ_pi, sJ_pl, sJ_ai, sJ_al1, sJ_al2, Nat.reduceEqDiff, if_true, if_false, ne_eq, not_false_eq_true, ite_true, ite_false]
  have b3' : OB (sI (md_pi σ 363 0) 347) (sI (md_pi σ 363 0) 349) 0 bl (sF σ 363) := OB_cg b3 (fun x _ => ⟨by simp only [sF_pi, sF_pl, sF_ai, sF_al, sG_pi, sG_pl, sG_ai, sG_al, sI_pi, sI_pl, sI_al, sI_ai1, sI_ai2, sJ_pi, sJ_pl, sJ_ai, sJ_al1, sJ_al2, Nat.reduceEqDiff, if_true, if_false, ne_eq, not_false_eq_true, ite_true, ite_false], by simp only [sF_pi, sF_pl, sF_ai, sF_al, sG_pi, sG_pl, sG_ai, sG_al, sI_pi, sI_pl, sI_al, sI_ai1, sI_ai2, sJ_pi, sJ_pl, sJ_ai, sJ_al1, sJ_al2, Nat.reduceEqDiff, if_true, if_false, ne_eq, not_false_eq_true, ite_true, ite_false]⟩)
  obtain ⟨τ, r1, r2, r3, r4, r5, r6, r7, r8⟩ := tog_lp (N := N) bl (md_pi σ 363 0) (sF σ 361) 0 (sF σ 363) N (seg_congr b1 (fun x _ => by simp only [sF_pi, sF_pl, sF_ai, sF_al, sG_pi, sG_pl, sG_ai, sG_al, sI_pi, sI_pl, sI_al, sI_ai1, sI_ai2, sJ_pi, sJ_pl, sJ_ai, sJ_al1, sJ_al2, Nat.reduceEqDiff, if_true, if_false, ne_eq, not_false_eq_true, ite_true, ite_false])) b3' (by rw [f0]; decide) (by rw [f0]; decide) (by decide) b4 nd rg (by simp only [BIG] at hN; omega)
  have g1 : m_fr gK σ (md_pi σ 363 0) := mf_pi mf_rfl rfl
  have fr := mf_tr g1 r2
  refine ⟨τ, ?_, ⟨?_, ?_, ?_, by lia⟩, fr, fun g hg x x0 x1 => ?_, ?_⟩
  · simp only [xx5_together, lt, sF_fold, sF_pi, sF_pl, sF_ai, sF_al, sG_pi, sG_pl, sG_ai, sG_al, sI_pi, sI_pl, sI_al, sI_ai1, sI_ai2, sJ_pi, sJ_pl, sJ_ai, sJ_al1, sJ_al2, Nat.reduceEqDiff, if_true, if_false, ne_eq, not_false_eq_true, ite_true, ite_false]
    simpa using r1
  · rw [mf_F fr rfl]; exact seg_congr b1 (fun x _ => mf_I fr rfl)
  · rw [mf_F fr rfl]; exact seg_congr b2 (fun x _ => mf_I fr rfl)
  · rw [f0] at r4; exact r4
  · have := r3 g hg x x0 (by simp only [sF_pi, sF_pl, sF_ai, sF_al, sG_pi, sG_pl, sG_ai, sG_al, sI_pi, sI_pl, sI_al, sI_ai1, sI_ai2, sJ_pi, sJ_pl, sJ_ai, sJ_al1, sJ_al2, Nat.reduceEqDiff, if_true, if_false, ne_eq, not_false_eq_true, ite_true, ite_false]; exact x1)
    simp only [xt, xv, sF_pi, sF_pl, sF_ai, sF_al, sG_pi, sG_pl, sG_ai, sG_al, sI_pi, sI_pl, sI_al, sI_ai1, sI_ai2, sJ_pi, sJ_pl, sJ_ai, sJ_al1, sJ_al2, Nat.reduceEqDiff, if_true, if_false, ne_eq, not_false_eq_true, ite_true, ite_false] at this ⊢
    exact this
  · rw [f0] at r6
    have z : (0 : Int32).toInt = 0 := rfl
    omega
