/-! LAYER 2: a script's function is entered: the system, the reference -/
theorem XF_w {P : Nat → Bool} {w : WD} {xf : Int32 → List Int32} {σ τ : mS} (H : XF w xf σ) (fr : m_fr P σ τ) (p1 : P 326 = false) (p2 : P 347 = false) (p3 : P 349 = false) (p4 : ∀ k, 356 ≤ k → k ≤ 363 → k ≠ 358 → P k = false) : XF w xf τ := by
  obtain ⟨fc, bl, s1, s2, s3, s4, s5, ⟨B1, B2, B3, B4⟩, b5, b6⟩ := H
  refine ⟨fc, bl, ?_, fun c hc => ?_, s3, s4, s5, ⟨?_, ?_, ?_, ?_⟩, b5, fun f => ?_⟩
  · rw [mf_F fr (p4 357 (by omega) (by omega) (by omega))]; exact seg_congr s1 (fun x _ => mf_I fr (p4 356 (by omega) (by omega) (by omega)))
  · rw [mf_I fr p1]; exact seg_congr (s2 c hc) (fun x _ => mf_I fr (p4 356 (by omega) (by omega) (by omega)))
  · rw [mf_F fr (p4 361 (by omega) (by omega) (by omega))]; exact seg_congr B1 (fun x _ => mf_I fr (p4 359 (by omega) (by omega) (by omega)))
  · rw [mf_F fr (p4 362 (by omega) (by omega) (by omega))]; exact seg_congr B2 (fun x _ => mf_I fr (p4 360 (by omega) (by omega) (by omega)))
  · rw [mf_F fr (p4 363 (by omega) (by omega) (by omega))]; exact OB_cg B3 (fun x _ => ⟨mf_I fr p2, mf_I fr p3⟩)
  · rw [mf_F fr (p4 363 (by omega) (by omega) (by omega))]; exact B4
  · rw [mf_I fr p3]; exact b6 f
theorem xcs_tr {σ τ υ : mS} {f : Int32} (h : xcs σ τ f) (h' : xcs τ υ f) : xcs σ υ f := by
  have z : sI τ 349 f = sI σ 349 f := h.1 349 (by omega)
  exact ⟨fun k hk => (h'.1 k hk).trans (h.1 k hk), fun x x0 x1 => ⟨(h'.2 x x0 (by rw [z]; exact x1)).1.trans (h.2 x x0 x1).1, (h'.2 x x0 (by rw [z]; exact x1)).2.trans (h.2 x x0 x1).2⟩⟩
/-- a call's own row of fields -/
def rowX (f a g at' more md rg wt : Int32) (σ : mS) : mS := md_ai (md_ai (md_ai (md_ai (md_ai (md_ai (md_ai (md_ai (md_ai σ 343 f.toNatClampNeg a) 344 f.toNatClampNeg g) 345 f.toNatClampNeg at') 346 f.toNatClampNeg at') 348 f.toNatClampNeg more) 350 f.toNatClampNeg md) 351 f.toNatClampNeg rg) 352 f.toNatClampNeg wt) 353 f.toNatClampNeg 0
def rwK (k : Nat) : Bool := [343, 344, 345, 346, 348, 350, 351, 352, 353].contains k
theorem rowX_fr {f a g at' more md rg wt : Int32} {σ : mS} : m_fr rwK σ (rowX f a g at' more md rg wt σ) := mf_ai (mf_ai (mf_ai (mf_ai (mf_ai (mf_ai (mf_ai (mf_ai (mf_ai mf_rfl rfl) rfl) rfl) rfl) rfl) rfl) rfl) rfl) rfl
theorem rowX_o {f a g at' more md rg wt h : Int32} {σ : mS} (f0 : 0 ≤ f) (h0 : 0 ≤ h) (ne : h ≠ f) (k : Nat) : sI (rowX f a g at' more md rg wt σ) k h = sI σ k h := by
  simp only [rowX]
  rw [sI_ai f0 h0, if_neg (fun z => ne z.2), sI_ai f0 h0, if_neg (fun z => ne z.2), sI_ai f0 h0, if_neg (fun z => ne z.2), sI_ai f0 h0, if_neg (fun z => ne z.2), sI_ai f0 h0, if_neg (fun z => ne z.2), sI_ai f0 h0, if_neg (fun z => ne z.2), sI_ai f0 h0, if_neg (fun z => ne z.2), sI_ai f0 h0, if_neg (fun z => ne z.2), sI_ai f0 h0, if_neg (fun z => ne z.2)]
theorem b127_x {N : Nat} {T : ty_xx6_begin} {md rg wt a g words more f : Int32} {σ τ : mS} (g0 : 0 ≤ g) (g1 : g < 5400) (f0 : 0 ≤ f) (f1 : f < 202) (hp : xx5_push N σ (sI σ 261 g + more) = some (f, τ)) : xx6_enter_b127 N T md rg wt a g words more σ = xx6_enter_b286 N T N g words more (sI τ 347 f) 0 (rowX f a g (sI τ 259 g) more md rg wt τ) := by
  simp (disch := lia) only [xx6_enter_b127, lt, gd_in, if_pos, if_neg, ↓reduceIte, gd_z0, gd_z1, gd_tt, sF_fold, sG_fold, sI_fold, sJ_fold, sF_pi, sF_pl, sF_ai, sF_al, sG_pi, sG_pl, sG_ai, sG_al, sI_pi, sI_pl, sI_al, sI_ai1, sI_ai2, sJ_pi, sJ_pl, sJ_ai, sJ_al1, sJ_al2, Nat.reduceEqDiff, if_true, if_false, ne_eq, not_false_eq_true, ite_true, ite_false, hp, bd, rowX]
theorem max0_x {N : Nat} {σ : mS} {a : Int32} (h : a ≤ 0) : xj8_max N σ a 0 = some (0, σ) := by
  by_cases q : a < 0
  · simp (disch := lia) only [xj8_max, xj8_max_b10, if_pos]
  · have : a = 0 := by lia
    subst this
    simp (disch := decide) only [xj8_max, xj8_max_b10, if_neg]
theorem max1_x {N : Nat} {σ : mS} {a : Int32} (h : 0 ≤ a) : xj8_max N σ a 0 = some (a, σ) := by
  simp (disch := lia) only [xj8_max, xj8_max_b10, if_neg]
theorem ent0_x {N : Nat} {T : ty_xx6_begin} {σ : mS} {n a g words more md rg wt : Int32} (a0 : 0 ≤ a) (a1 : a < 4000) (h409 : sG σ 409 = Int32.toInt64 a) (hg : sI σ 222 a = g) (g0 : 0 ≤ g) (g1 : g < 5400) (hw : sI σ 262 g = words) (w0 : 0 ≤ words) (w1 : words ≤ 60) (hop : sF σ 358 < 200) (h399 : sF σ 399 = n) (n0 : 0 ≤ n) (n1 : n ≤ 100) (hm : (sI σ 263 g = 0 ∧ more = 0) ∨ (sI σ 263 g ≠ 0 ∧ n ≤ words ∧ more = 0) ∨ (sI σ 263 g ≠ 0 ∧ words < n ∧ more = n - words)) : bxx6_enter N T σ md rg wt = xx6_enter_b127 N T md rg wt a g words more σ := by
  have op := open_x1 (N := N) hop
  rcases hm with ⟨h1, rfl⟩ | ⟨h1, h2, rfl⟩ | ⟨h1, h2, rfl⟩
  · simp (disch := lia) only [bxx6_enter, lt, gd_in, if_pos, if_neg, ↓reduceIte, gd_z0, gd_z1, gd_tt, sF_fold, sG_fold, sI_fold, sJ_fold, h409, h_ll, hg, op, bx, hw, h1]
  · have mx := max0_x (N := N) (σ := σ) (a := n - words) (by lia)
    simp (disch := lia) only [bxx6_enter, lt, gd_in, if_pos, if_neg, ↓reduceIte, gd_z0, gd_z1, gd_tt, sF_fold, sG_fold, sI_fold, sJ_fold, h409, h_ll, hg, op, bx, hw, h399, mx, bd]
  · have mx := max1_x (N := N) (σ := σ) (a := n - words) (by lia)
    simp (disch := lia) only [bxx6_enter, lt, gd_in, if_pos, if_neg, ↓reduceIte, gd_z0, gd_z1, gd_tt, sF_fold, sG_fold, sI_fold, sJ_fold, h409, h_ll, hg, op, bx, hw, h399, mx, bd]
def esK (k : Nat) : Bool := qK k || rwK k
theorem rowX_s {f a g at' more md rg wt : Int32} {σ : mS} (f0 : 0 ≤ f) : sI (rowX f a g at' more md rg wt σ) 343 f = a ∧ sI (rowX f a g at' more md rg wt σ) 344 f = g ∧ sI (rowX f a g at' more md rg wt σ) 346 f = at' ∧ sI (rowX f a g at' more md rg wt σ) 348 f = more ∧ sI (rowX f a g at' more md rg wt σ) 349 f = sI σ 349 f ∧ sI (rowX f a g at' more md rg wt σ) 350 f = md ∧ sI (rowX f a g at' more md rg wt σ) 351 f = rg ∧ sI (rowX f a g at' more md rg wt σ) 352 f = wt ∧ sI (rowX f a g at' more md rg wt σ) 355 f = sI σ 355 f := by
  refine ⟨?_, ?_, ?_, ?_, ?_, ?_, ?_, ?_, ?_⟩ <;> simp (disch := lia) only [rowX, sF_pi, sF_pl, sF_ai, sF_al, sG_pi, sG_pl, sG_ai, sG_al, sI_pi, sI_pl, sI_al, sI_ai1, sI_ai2, sJ_pi, sJ_pl, sJ_ai, sJ_al1, sJ_al2, Nat.reduceEqDiff, if_true, if_false, ne_eq, not_false_eq_true, ite_true, ite_false]
theorem entL_x {N : Nat} (hN : BIG ≤ N) {T : ty_xx6_begin} {σ : mS} {n g words more b R : Int32} (g0 : 0 ≤ g) (g1 : g < 5400) (b0 : 0 ≤ b) (b1 : b ≤ 560000) (hR : sI σ 261 g = R) (R0 : words + 100 ≤ R) (R1 : R ≤ 2500) (bR : b + (R + more) ≤ 560000) (w0 : 0 ≤ words) (w1 : words ≤ 60) (m0 : 0 ≤ more) (m1 : more ≤ 100) (mw : ∀ k, 0 ≤ k → k < more → words + k < n) (h399 : sF σ 399 = n) (n0 : 0 ≤ n) (n1 : n ≤ 100) (tt : ∀ k, 0 ≤ k → k < n → 0 ≤ sI σ 397 k ∧ sI σ 397 k ≤ 8) : ∃ τ, xx6_enter_b286 N T N g words more b 0 σ = some (.ok τ) ∧ m_fr (fun k => [364, 365].contains k) σ τ ∧ (∀ i, 0 ≤ i → i < b ∨ b + (R + more) ≤ i → sI τ 364 i = sI σ 364 i ∧ sJ τ 365 i = sJ σ 365 i) ∧ (∀ k, 0 ≤ k → k < words → sI τ 364 (b + k) = (if k < n then sI σ 397 k else 0) ∧ sJ τ 365 (b + k) = (if k < n then sJ σ 398 k else 0)) ∧ (∀ k, 0 ≤ k → k < more → sI τ 364 (b + R + k) = sI σ 397 (words + k) ∧ sJ τ 365 (b + R + k) = sJ σ 398 (words + k)) := by
  obtain ⟨τ2, a1', a2, a3⟩ := en286_lp (N := N) (T := T) (σ := σ) (g := g) (words := words) (more := more) (b := b) (n := n) g0 g1 b0 (by lia) b1 w0 (by lia) h399 n0 (by lia) tt N 0 (by decide) w0 (big_d hN) σ mf_rfl ⟨fun k k0 k1 => by exfalso; lia, fun i _ _ => ⟨rfl, rfl⟩⟩
  have e7 : ∀ k, sI τ2 397 k = sI σ 397 k := fun k => mf_I a2 rfl
  have e8 : ∀ k, sJ τ2 398 k = sJ σ 398 k := fun k => mf_J a2 rfl
  have mm : words + more ≤ 160 := by lia
  obtain ⟨τ3, b1', b2, b3⟩ := en383_lp (N := N) (T := T) (σ := τ2) (words := words) (more := more) (b := b + R) (n := n) (by lia) (by lia) (by lia) w0 (by lia) (by lia) m0 mm (fun k k0 k1 => by
    rw [e7]
    have := mw k k0 k1
    exact tt _ (by lia) this) N 0 (by decide) m0 (big_d hN) τ2 mf_rfl ⟨fun k k0 k1 => by exfalso; lia, fun i _ _ => ⟨rfl, rfl⟩⟩
  refine ⟨τ3, by rw [a1', hR]; exact b1', mf_tr a2 b2, fun i i0 hi => ?_, fun k k0 k1 => ?_, fun k k0 k1 => ?_⟩
  · have q1 := b3.2 i i0 (by rcases hi with h | h; exact .inl (by lia); exact .inr (by lia))
    have q2 := a3.2 i i0 (by rcases hi with h | h; exact .inl (by lia); exact .inr (by lia))
    exact ⟨q1.1.trans q2.1, q1.2.trans q2.2⟩
  · have q1 := b3.2 (b + k) (by lia) (.inl (by lia))
    have q2 := a3.1 k k0 k1
    exact ⟨q1.1.trans q2.1, q1.2.trans q2.2⟩
  · have q1 := b3.1 k k0 k1
    exact ⟨q1.1.trans (e7 _), q1.2.trans (e8 _)⟩
theorem out_reg {bf bh Rf Rh x : Int32} (h0 : 0 ≤ bh) (h1 : bh ≤ 560000) (h2 : bh + Rh ≤ 560000) (x0 : 0 ≤ x) (x1 : x < Rh) (f0 : 0 ≤ bf) (f1 : bf ≤ 560000) (f2 : bf + Rf ≤ 560000) (r0 : 0 ≤ Rf) (r1 : Rf ≤ 2600) (s1 : Rh ≤ 2600) (dj : bf + Rf ≤ bh ∨ bh + Rh ≤ bf) : 0 ≤ bh + x ∧ (bh + x < bf ∨ bf + Rf ≤ bh + x) := by
  rcases dj with d | d
  · exact ⟨by lia, .inr (by lia)⟩
  · exact ⟨by lia, .inl (by lia)⟩
theorem entS_x {N : Nat} (hN : BIG ≤ N) {T : ty_xx6_begin} {w : WD} {xf : Int32 → List Int32} {σ : mS} {c n a g words more md rg wt : Int32} (X : XF w xf σ) (nc : (cX w).Nodup) (hc : c ∈ cX w) (hp : ∀ e, e ∈ cX w → 0 ≤ e) (c1 : c < 121) (hn : sF σ 339 = c) (hl : (fAll w xf).length ≤ 199) (a0 : 0 ≤ a) (a1 : a < 4000) (h409 : sG σ 409 = Int32.toInt64 a) (hg : sI σ 222 a = g) (g0 : 0 ≤ g) (g1 : g < 5400) (hw : sI σ 262 g = words) (w0 : 0 ≤ words) (w1 : words ≤ 60) (hR : words + 100 ≤ sI σ 261 g) (hR1 : sI σ 261 g ≤ 2500) (hop : sF σ 358 < 200) (h399 : sF σ 399 = n) (n0 : 0 ≤ n) (n1 : n ≤ 100) (tt : ∀ k, 0 ≤ k → k < n → 0 ≤ sI σ 397 k ∧ sI σ 397 k ≤ 8) (hm : (sI σ 263 g = 0 ∧ more = 0) ∨ (sI σ 263 g ≠ 0 ∧ n ≤ words ∧ more = 0) ∨ (sI σ 263 g ≠ 0 ∧ words < n ∧ more = n - words)) :
    ∃ f τ, bxx6_enter N T σ md rg wt = some (.ok τ) ∧ XF w (fU xf c (f :: xf c)) τ ∧ (0 ≤ f ∧ f < 202) ∧ f ∉ fAll w xf ∧ m_fr esK σ τ ∧ sF τ 358 = sF σ 358 + 1 ∧ (∀ h, h ∈ fAll w xf → xcs σ τ h) ∧ (sI τ 343 f = a ∧ sI τ 344 f = g ∧ sI τ 346 f = sI σ 259 g ∧ sI τ 348 f = more ∧ sI τ 349 f = sI σ 261 g + more ∧ sI τ 350 f = md ∧ sI τ 351 f = rg ∧ sI τ 352 f = wt ∧ sI τ 355 f = 0) ∧ (∀ k, 0 ≤ k → k < words → xt τ f k = (if k < n then sI σ 397 k else 0) ∧ xv τ f k = (if k < n then sJ σ 398 k else 0)) ∧ (∀ k, 0 ≤ k → k < more → xt τ f (sI σ 261 g + k) = sI σ 397 (words + k) ∧ xv τ f (sI σ 261 g + k) = sJ σ 398 (words + k)) := by
  have m0 : 0 ≤ more ∧ more ≤ 100 ∧ ∀ k, 0 ≤ k → k < more → words + k < n := by
    rcases hm with ⟨_, rfl⟩ | ⟨_, _, rfl⟩ | ⟨_, h, rfl⟩
    · exact ⟨by decide, by decide, fun k k0 k1 => by exfalso; lia⟩
    · exact ⟨by decide, by decide, fun k k0 k1 => by exfalso; lia⟩
    · exact ⟨by lia, by lia, fun k k0 k1 => by lia⟩
  have e0 := ent0_x (N := N) (T := T) (md := md) (rg := rg) (wt := wt) a0 a1 h409 hg g0 g1 hw w0 w1 hop h399 n0 n1 hm
  rw [e0]
  clear e0 hm h409 hg hw hop
  have rz : 0 ≤ sI σ 261 g + more ∧ sI σ 261 g + more ≤ 2600 ∧ ¬ (sI σ 261 g + more = 0) := ⟨by lia, by lia, by lia⟩
  obtain ⟨f, τ0, p1, p2, p3, p4, p5, p6, p7, p8, p9, _⟩ := push_x hN (sz := sI σ 261 g + more) X nc hc hp c1 hn rz.1 rz.2.1 hl
  rw [if_neg rz.2.2] at p8
  have hcf : f ∈ fAll w (fU xf c (f :: xf c)) := (fAll_push nc hc).mem_iff.mpr List.mem_cons_self
  have rb : 0 ≤ sI τ0 347 f ∧ sI τ0 347 f ≤ 560000 ∧ sI τ0 347 f + (sI σ 261 g + more) ≤ 560000 := by
    have at0 := (XF_at p2 hcf).2.2.2
    rw [p7] at at0
    exact at0 rz.2.2
  rw [b127_x g0 g1 p3.1 p3.2 p1]
  have fr1 : m_fr rwK τ0 (rowX f a g (sI τ0 259 g) more md rg wt τ0) := rowX_fr
  obtain ⟨r1, r2, r3, r4, r5, r6, r7, r8, r9⟩ := rowX_s (a := a) (g := g) (at' := sI τ0 259 g) (more := more) (md := md) (rg := rg) (wt := wt) (σ := τ0) p3.1
  have ro : ∀ h, 0 ≤ h → h ≠ f → ∀ k, sI (rowX f a g (sI τ0 259 g) more md rg wt τ0) k h = sI τ0 k h := fun h h0 ne k => rowX_o p3.1 h0 ne k
  generalize rowX f a g (sI τ0 259 g) more md rg wt τ0 = τ1 at *
  have i259 : sI τ0 259 g = sI σ 259 g := mf_I p5 rfl
  obtain ⟨τ3, b1, f3, b3, b4, b5⟩ := entL_x hN (T := T) (σ := τ1) (n := n) (g := g) (words := words) (more := more) (b := sI τ0 347 f) (R := sI σ 261 g) g0 g1 rb.1 rb.2.1 (by rw [mf_I fr1 rfl, mf_I p5 rfl]) hR hR1 rb.2.2 w0 w1 m0.1 m0.2.1 m0.2.2 (by rw [mf_F fr1 rfl, mf_F p5 rfl]; exact h399) n0 n1 (fun k k0 k1 => by rw [mf_I fr1 rfl, mf_I p5 rfl]; exact tt k k0 k1)
  have e397 : ∀ k, sI τ1 397 k = sI σ 397 k := fun k => by rw [mf_I fr1 rfl, mf_I p5 rfl]
  have e398 : ∀ k, sJ τ1 398 k = sJ σ 398 k := fun k => by rw [mf_J fr1 rfl, mf_J p5 rfl]
  have f4 : m_fr (fun k => rwK k || [364, 365].contains k) τ0 τ3 := mf_tr (mf_mono fr1 (fun k hk => (Bool.or_eq_false_iff.mp hk).1)) (mf_mono f3 (fun k hk => (Bool.or_eq_false_iff.mp hk).2))
  have frA : m_fr esK σ τ3 := mf_tr (mf_mono p5 (fun k hk => (Bool.or_eq_false_iff.mp hk).1)) (mf_mono f4 (fun k hk => by
    obtain ⟨h1, h2⟩ := Bool.or_eq_false_iff.mp hk
    rw [Bool.or_eq_false_iff]
    refine ⟨h2, ?_⟩
    simp only [qK, List.contains_cons, List.contains_nil, Bool.or_eq_false_iff, beq_eq_false_iff_ne] at h1 ⊢
    (repeat' (first | exact trivial | omega | apply And.intro))))
  have i347 : ∀ h, sI τ3 347 h = sI τ0 347 h := fun h => mf_I f4 rfl
  have row : ∀ k, k ≠ 364 → k ≠ 365 → ∀ h, sI τ3 k h = sI τ1 k h := fun k k1 k2 h => mf_I f3 (by simp only [List.contains_cons, List.contains_nil, Bool.or_eq_false_iff, beq_eq_false_iff_ne]; exact ⟨k1, k2, trivial⟩)
  have out : ∀ i, 0 ≤ i → i < sI τ0 347 f ∨ sI τ0 347 f + (sI σ 261 g + more) ≤ i → sI τ3 364 i = sI τ0 364 i ∧ sJ τ3 365 i = sJ τ0 365 i := fun i i0 hi => by
    have q := b3 i i0 hi
    rw [q.1, q.2, mf_I fr1 rfl, mf_J fr1 rfl]
    exact ⟨rfl, rfl⟩
  have x4 : XF w (fU xf c (f :: xf c)) τ3 := XF_w p2 f4 rfl rfl rfl (fun k k0 k1 _ => by
    simp only [rwK, List.contains_cons, List.contains_nil, Bool.or_eq_false_iff, beq_eq_false_iff_ne]
    (repeat' (first | exact trivial | omega | apply And.intro)))
  have xc : ∀ h, h ∈ fAll w xf → xcs τ0 τ3 h := fun h hh => by
    have h0 := (XF_at X hh).1.1
    have ne : h ≠ f := fun q => p4 (q ▸ hh)
    have hh' : h ∈ fAll w (fU xf c (f :: xf c)) := (fAll_push nc hc).mem_iff.mpr (List.mem_cons_of_mem _ hh)
    have at1 := XF_at p2 hh'
    refine ⟨fun k hk => ?_, fun x x0 x1 => ?_⟩
    · rw [row k (by omega) (by omega)]
      exact ro h h0 ne k
    · have zh : sI τ0 349 h ≠ 0 := fun q => by rw [q] at x1; lia
      have rh := at1.2.2.2 zh
      have dj := XF_dis p2 hh' hcf ne zh (by rw [p7]; exact rz.2.2)
      rw [p7] at dj
      simp only [xt, xv]
      rw [i347]
      have oo := out_reg rh.1 rh.2.1 rh.2.2 x0 x1 rb.1 rb.2.1 rb.2.2 rz.1 rz.2.1 at1.2.2.1 dj.symm
      exact out _ oo.1 oo.2
  refine ⟨f, τ3, b1, x4, p3, p4, frA, by rw [mf_F f4 rfl]; exact p6, fun h hh => xcs_tr (p9 h hh) (xc h hh), ⟨?_, ?_, ?_, ?_, ?_, ?_, ?_, ?_, ?_⟩, fun k k0 k1 => ?_, fun k k0 k1 => ?_⟩
  · rw [row _ (by omega) (by omega)]; exact r1
  · rw [row _ (by omega) (by omega)]; exact r2
  · rw [row _ (by omega) (by omega), r3]; exact i259
  · rw [row _ (by omega) (by omega)]; exact r4
  · rw [row _ (by omega) (by omega), r5]; exact p7
  · rw [row _ (by omega) (by omega)]; exact r6
  · rw [row _ (by omega) (by omega)]; exact r7
  · rw [row _ (by omega) (by omega)]; exact r8
  · rw [row _ (by omega) (by omega), r9]; exact p8
  · simp only [xt, xv]
    rw [i347]
    have q := b4 k k0 k1
    rw [q.1, q.2, e397, e398]
    exact ⟨rfl, rfl⟩
  · simp only [xt, xv]
    rw [i347]
    have q := b5 k k0 k1
    rw [show sI τ0 347 f + (sI σ 261 g + k) = sI τ0 347 f + sI σ 261 g + k by lia, q.1, q.2, e397, e398]
    exact ⟨rfl, rfl⟩
/-- the reference's row of a call -/
def opM (kd fn to wn th : Int32) (μ : mS) : mS := md_pi (md_pi (md_ai (md_ai (md_ai (md_ai (md_ai (md_ai (md_ai μ 144 (sF μ 154).toNatClampNeg kd) 145 (sF μ 154).toNatClampNeg fn) 149 (sF μ 154).toNatClampNeg to) 150 (sF μ 154).toNatClampNeg wn) 151 (sF μ 154).toNatClampNeg th) 148 (sF μ 154).toNatClampNeg 0) 153 (sF μ 154).toNatClampNeg 0) 154 (sF μ 154 + 1)) 155 (sF μ 155 + 1)
theorem open_m {N : Nat} {μ : mS} {kd fn to wn th : Int32} (h0 : 0 ≤ sF μ 154) (h1 : sF μ 154 < 256) (k0 : 0 ≤ kd) (k1 : kd ≤ 8) : mm_openCall N μ kd fn to wn th = some (opM kd fn to wn th μ) := by
  simp (disch := lia) only [mm_openCall, lt, gd_in, if_pos, if_neg, ↓reduceIte, gd_z0, gd_z1, gd_tt, sF_fold, sG_fold, sI_fold, sJ_fold, sF_pi, sF_pl, sF_ai, sF_al, sG_pi, sG_pl, sG_ai, sG_al, sI_pi, sI_pl, sI_al, sI_ai1, sI_ai2, sJ_pi, sJ_pl, sJ_ai, sJ_al1, sJ_al2, Nat.reduceEqDiff, if_true, if_false, ne_eq, not_false_eq_true, ite_true, ite_false, nar_tag, opM]
def oqM (k : Nat) : Bool := [144, 145, 146, 147, 148, 149, 150, 151, 152, 153, 154, 155].contains k
theorem opM_fr {μ : mS} {kd fn to wn th : Int32} : m_fr oqM μ (opM kd fn to wn th μ) := mf_pi (mf_pi (mf_ai (mf_ai (mf_ai (mf_ai (mf_ai (mf_ai (mf_ai mf_rfl rfl) rfl) rfl) rfl) rfl) rfl) rfl) rfl) rfl
set_option maxHeartbeats 4000000 in
theorem entS_m {N : Nat} (hN : BIG ≤ N) {μ : mS} {b body p n wn th words more : Int32} (b0 : 0 ≤ b) (b1 : b < 4100) (hb : sI μ 45 b = body) (y0 : 0 ≤ body) (y1 : body < 9000) (hw : sI μ 77 body = words) (w0 : 0 ≤ words) (w1 : words ≤ 60) (p0 : 0 ≤ p) (p1 : p ≤ 475000) (n0 : 0 ≤ n) (n1 : n ≤ 100) (c0 : 0 ≤ sF μ 154) (c1 : sF μ 154 < 250) (top : sF μ 143 = p + n + 1) (tt : ∀ k, 0 ≤ k → k < n → 0 ≤ sI μ 141 (p + 1 + k) ∧ sI μ 141 (p + 1 + k) ≤ 8) (hm : (sI μ 78 body = 0 ∧ more = 0) ∨ (sI μ 78 body ≠ 0 ∧ n ≤ words ∧ more = 0) ∨ (sI μ 78 body ≠ 0 ∧ words < n ∧ more = n - words)) :
    ∃ τ, mm_enterScript N μ b p n wn th = some τ ∧ m_fr (fun k => oqM k || [141, 142, 143, 188, 189, 190].contains k) μ τ ∧ sF τ 154 = sF μ 154 + 1 ∧ sF τ 155 = sF μ 155 + 1 ∧ (mff τ (sF μ 154) 0 = 0 ∧ mff τ (sF μ 154) 1 = b ∧ mff τ (sF μ 154) 2 = sI μ 76 body ∧ mff τ (sF μ 154) 3 = p + 1 + more ∧ mff τ (sF μ 154) 4 = more ∧ mff τ (sF μ 154) 5 = p ∧ mff τ (sF μ 154) 6 = wn ∧ mff τ (sF μ 154) 7 = th) ∧ (∀ k j, 0 ≤ k → k < sF μ 154 → j < 10 → mff τ k j = mff μ k j) ∧ (∀ i, 0 ≤ i → i < p + 1 → sI τ 141 i = sI μ 141 i ∧ sJ τ 142 i = sJ μ 142 i) ∧ sF τ 143 = p + 1 + more + words ∧ (∀ k, 0 ≤ k → k < words → sI τ 141 (p + 1 + more + k) = (if k < n then sI μ 141 (p + 1 + k) else 0) ∧ sJ τ 142 (p + 1 + more + k) = (if k < n then sJ μ 142 (p + 1 + k) else 0)) ∧ (∀ k, 0 ≤ k → k < more → sI τ 141 (p + 1 + k) = sI μ 141 (p + 1 + (words + k)) ∧ sJ τ 142 (p + 1 + k) = sJ μ 142 (p + 1 + (words + k))) := by
  let c := sF μ 154
  let μ1 := md_ai (md_ai (md_ai (opM 0 b p wn th μ) 152 c.toNatClampNeg (sI μ 79 body)) 146 c.toNatClampNeg (sI μ 76 body)) 148 c.toNatClampNeg more
  have fr1 : m_fr oqM μ μ1 := mf_ai (mf_ai (mf_ai opM_fr rfl) rfl) rfl
  have op := open_m (N := N) (μ := μ) (kd := 0) (fn := b) (to := p) (wn := wn) (th := th) c0 (by lia) (by decide) (by decide)
  have o154 : sF (opM 0 b p wn th μ) 154 = c + 1 := by simp only [opM, sF_pi, sF_pl, sF_ai, sF_al, sG_pi, sG_pl, sG_ai, sG_al, sI_pi, sI_pl, sI_al, sI_ai1, sI_ai2, sJ_pi, sJ_pl, sJ_ai, sJ_al1, sJ_al2, Nat.reduceEqDiff, if_true, if_false, ne_eq, not_false_eq_true, ite_true, ite_false, c]
  have oI : ∀ k i, k < 140 → sI (opM 0 b p wn th μ) k i = sI μ k i := fun k i hk => mf_I opM_fr (by simp only [oqM, List.contains_cons, List.contains_nil, Bool.or_eq_false_iff, beq_eq_false_iff_ne]; (repeat' (first | exact trivial | omega | apply And.intro)))
  have ec : c + 1 - 1 = c := by lia
  have c0' : 0 ≤ c := c0
  have c1' : c < 250 := c1
  have m0 : 0 ≤ more ∧ more ≤ 100 := by rcases hm with ⟨_, rfl⟩ | ⟨_, _, rfl⟩ | ⟨_, h, rfl⟩ <;> exact ⟨by lia, by lia⟩
  -- the row is written
  have e1 : mm_enterScript N μ b p n wn th = (if more ≤ 0 then (if n ≤ words then mm_enterScript_211 N N words more c (p + 1) μ1 else mm_enterScript_232 N more c (p + 1) (md_pi μ1 143 (p + 1 + words))) else bd (mm_gather N μ1 (p + 1) n) (fun z14 => mm_enterScript_126 N N n words more c (p + 1) words (md_pi z14 143 (p + 1)))) := by
    have e41 : ∀ y : Int32, y = more → mm_enterScript_41 N b p n wn th body words y μ = (if more ≤ 0 then (if n ≤ words then mm_enterScript_211 N N words more c (p + 1) μ1 else mm_enterScript_232 N more c (p + 1) (md_pi μ1 143 (p + 1 + words))) else bd (mm_gather N μ1 (p + 1) n) (fun z14 => mm_enterScript_126 N N n words more c (p + 1) words (md_pi z14 143 (p + 1)))) := fun y hy => by
      subst hy
      simp (disch := lia) only [mm_enterScript_41, op, bd, lt, sF_fold, o154, ec, gd_in, sI_fold, oI, sF_pi, sF_pl, sF_ai, sF_al, sG_pi, sG_pl, sG_ai, sG_al, sI_pi, sI_pl, sI_al, sI_ai1, sI_ai2, sJ_pi, sJ_pl, sJ_ai, sJ_al1, sJ_al2, Nat.reduceEqDiff, if_true, if_false, ne_eq, not_false_eq_true, ite_true, ite_false, μ1]
    rcases hm with ⟨h1, rfl⟩ | ⟨h1, h2, rfl⟩ | ⟨h1, h2, rfl⟩
    · rw [← e41 0 rfl]
      simp (disch := lia) only [mm_enterScript, mm_enterScript_40, lt, gd_in, if_pos, if_neg, ↓reduceIte, gd_z0, gd_z1, gd_tt, sF_fold, sG_fold, sI_fold, sJ_fold, hb, hw, h1]
    · rw [← e41 0 rfl]
      simp (disch := lia) only [mm_enterScript, mm_enterScript_40, lt, gd_in, if_pos, if_neg, ↓reduceIte, gd_z0, gd_z1, gd_tt, sF_fold, sG_fold, sI_fold, sJ_fold, hb, hw, h1]
    · rw [← e41 (n - words) rfl]
      simp (disch := lia) only [mm_enterScript, mm_enterScript_40, lt, gd_in, if_pos, if_neg, ↓reduceIte, gd_z0, gd_z1, gd_tt, sF_fold, sG_fold, sI_fold, sJ_fold, hb, hw, h1]
  have i1 : ∀ i, sI μ1 141 i = sI μ 141 i := fun i => mf_I fr1 rfl
  have j1 : ∀ i, sJ μ1 142 i = sJ μ 142 i := fun i => mf_J fr1 rfl
  have t1 : sF μ1 143 = p + n + 1 := by rw [mf_F fr1 rfl]; exact top
  -- what is known of a state behind
  have fin : ∀ τ0, m_fr (fun k => [141, 142, 143, 188, 189, 190].contains k) μ1 τ0 → sF τ0 143 = p + 1 + more + words → (∀ i, 0 ≤ i → i < p + 1 → sI τ0 141 i = sI μ 141 i ∧ sJ τ0 142 i = sJ μ 142 i) → (∀ k, 0 ≤ k → k < words → sI τ0 141 (p + 1 + more + k) = (if k < n then sI μ 141 (p + 1 + k) else 0) ∧ sJ τ0 142 (p + 1 + more + k) = (if k < n then sJ μ 142 (p + 1 + k) else 0)) → (∀ k, 0 ≤ k → k < more → sI τ0 141 (p + 1 + k) = sI μ 141 (p + 1 + (words + k)) ∧ sJ τ0 142 (p + 1 + k) = sJ μ 142 (p + 1 + (words + k))) → ∃ τ, mm_enterScript_232 N more c (p + 1) τ0 = some τ ∧ m_fr (fun k => oqM k || [141, 142, 143, 188, 189, 190].contains k) μ τ ∧ sF τ 154 = c + 1 ∧ sF τ 155 = sF μ 155 + 1 ∧ (mff τ c 0 = 0 ∧ mff τ c 1 = b ∧ mff τ c 2 = sI μ 76 body ∧ mff τ c 3 = p + 1 + more ∧ mff τ c 4 = more ∧ mff τ c 5 = p ∧ mff τ c 6 = wn ∧ mff τ c 7 = th) ∧ (∀ k j, 0 ≤ k → k < c → j < 10 → mff τ k j = mff μ k j) ∧ (∀ i, 0 ≤ i → i < p + 1 → sI τ 141 i = sI μ 141 i ∧ sJ τ 142 i = sJ μ 142 i) ∧ sF τ 143 = p + 1 + more + words ∧ (∀ k, 0 ≤ k → k < words → sI τ 141 (p + 1 + more + k) = (if k < n then sI μ 141 (p + 1 + k) else 0) ∧ sJ τ 142 (p + 1 + more + k) = (if k < n then sJ μ 142 (p + 1 + k) else 0)) ∧ (∀ k, 0 ≤ k → k < more → sI τ 141 (p + 1 + k) = sI μ 141 (p + 1 + (words + k)) ∧ sJ τ 142 (p + 1 + k) = sJ μ 142 (p + 1 + (words + k))) := fun τ0 fr0 h143 hlo hw' hm' => by
    have fA : m_fr (fun k => oqM k || [141, 142, 143, 188, 189, 190].contains k) μ (md_ai τ0 147 c.toNatClampNeg (p + 1 + more)) := mf_ai (mf_tr (mf_mono fr1 (fun k hk => (Bool.or_eq_false_iff.mp hk).1)) (mf_mono fr0 (fun k hk => (Bool.or_eq_false_iff.mp hk).2))) rfl
    have rw0 : ∀ k i, 144 ≤ k → k ≤ 153 → sI τ0 k i = sI μ1 k i := fun k i k0 k1 => mf_I fr0 (by simp only [List.contains_cons, List.contains_nil, Bool.or_eq_false_iff, beq_eq_false_iff_ne]; (repeat' (first | exact trivial | omega | apply And.intro)))
    refine ⟨md_ai τ0 147 c.toNatClampNeg (p + 1 + more), ?_, fA, ?_, ?_, ⟨?_, ?_, ?_, ?_, ?_, ?_, ?_, ?_⟩, fun k j k0 k1 hj => ?_, fun i i0 i1' => by simp only [sF_pi, sF_pl, sF_ai, sF_al, sG_pi, sG_pl, sG_ai, sG_al, sI_pi, sI_pl, sI_al, sI_ai1, sI_ai2, sJ_pi, sJ_pl, sJ_ai, sJ_al1, sJ_al2, Nat.reduceEqDiff, if_true, if_false, ne_eq, not_false_eq_true, ite_true, ite_false]; exact hlo i i0 i1', by simp only [sF_pi, sF_pl, sF_ai, sF_al, sG_pi, sG_pl, sG_ai, sG_al, sI_pi, sI_pl, sI_al, sI_ai1, sI_ai2, sJ_pi, sJ_pl, sJ_ai, sJ_al1, sJ_al2, Nat.reduceEqDiff, if_true, if_false, ne_eq, not_false_eq_true, ite_true, ite_false]; exact h143, fun k k0 k1 => by simp only [sF_pi, sF_pl, sF_ai, sF_al, sG_pi, sG_pl, sG_ai, sG_al, sI_pi, sI_pl, sI_al, sI_ai1, sI_ai2, sJ_pi, sJ_pl, sJ_ai, sJ_al1, sJ_al2, Nat.reduceEqDiff, if_true, if_false, ne_eq, not_false_eq_true, ite_true, ite_false]; exact hw' k k0 k1, fun k k0 k1 => by simp only [sF_pi, sF_pl, sF_ai, sF_al, sG_pi, sG_pl, sG_ai, sG_al, sI_pi, sI_pl, sI_al, sI_ai1, sI_ai2, sJ_pi, sJ_pl, sJ_ai, sJ_al1, sJ_al2, Nat.reduceEqDiff, if_true, if_false, ne_eq, not_false_eq_true, ite_true, ite_false]; exact hm' k k0 k1⟩
    · simp (disch := lia) only [mm_enterScript_232, lt, gd_in, if_pos, if_neg, ↓reduceIte, gd_z0, gd_z1, gd_tt, sF_fold, sG_fold, sI_fold, sJ_fold]
    · simp only [sF_pi, sF_pl, sF_ai, sF_al, sG_pi, sG_pl, sG_ai, sG_al, sI_pi, sI_pl, sI_al, sI_ai1, sI_ai2, sJ_pi, sJ_pl, sJ_ai, sJ_al1, sJ_al2, Nat.reduceEqDiff, if_true, if_false, ne_eq, not_false_eq_true, ite_true, ite_false]; rw [mf_F fr0 rfl]; simp only [μ1, sF_pi, sF_pl, sF_ai, sF_al, sG_pi, sG_pl, sG_ai, sG_al, sI_pi, sI_pl, sI_al, sI_ai1, sI_ai2, sJ_pi, sJ_pl, sJ_ai, sJ_al1, sJ_al2, Nat.reduceEqDiff, if_true, if_false, ne_eq, not_false_eq_true, ite_true, ite_false]; exact o154
    · simp only [sF_pi, sF_pl, sF_ai, sF_al, sG_pi, sG_pl, sG_ai, sG_al, sI_pi, sI_pl, sI_al, sI_ai1, sI_ai2, sJ_pi, sJ_pl, sJ_ai, sJ_al1, sJ_al2, Nat.reduceEqDiff, if_true, if_false, ne_eq, not_false_eq_true, ite_true, ite_false]; rw [mf_F fr0 rfl]; simp only [μ1, opM, sF_pi, sF_pl, sF_ai, sF_al, sG_pi, sG_pl, sG_ai, sG_al, sI_pi, sI_pl, sI_al, sI_ai1, sI_ai2, sJ_pi, sJ_pl, sJ_ai, sJ_al1, sJ_al2, Nat.reduceEqDiff, if_true, if_false, ne_eq, not_false_eq_true, ite_true, ite_false]
    · show sI (md_ai τ0 147 c.toNatClampNeg (p + 1 + more)) 144 c = 0
      simp (disch := lia) only [sF_pi, sF_pl, sF_ai, sF_al, sG_pi, sG_pl, sG_ai, sG_al, sI_pi, sI_pl, sI_al, sI_ai1, sI_ai2, sJ_pi, sJ_pl, sJ_ai, sJ_al1, sJ_al2, Nat.reduceEqDiff, if_true, if_false, ne_eq, not_false_eq_true, ite_true, ite_false]
      rw [rw0 _ _ (by omega) (by omega)]; simp (disch := lia) only [μ1, opM, sF_pi, sF_pl, sF_ai, sF_al, sG_pi, sG_pl, sG_ai, sG_al, sI_pi, sI_pl, sI_al, sI_ai1, sI_ai2, sJ_pi, sJ_pl, sJ_ai, sJ_al1, sJ_al2, Nat.reduceEqDiff, if_true, if_false, ne_eq, not_false_eq_true, ite_true, ite_false, c]
    · show sI (md_ai τ0 147 c.toNatClampNeg (p + 1 + more)) 145 c = b
      simp (disch := lia) only [sF_pi, sF_pl, sF_ai, sF_al, sG_pi, sG_pl, sG_ai, sG_al, sI_pi, sI_pl, sI_al, sI_ai1, sI_ai2, sJ_pi, sJ_pl, sJ_ai, sJ_al1, sJ_al2, Nat.reduceEqDiff, if_true, if_false, ne_eq, not_false_eq_true, ite_true, ite_false]
      rw [rw0 _ _ (by omega) (by omega)]; simp (disch := lia) only [μ1, opM, sF_pi, sF_pl, sF_ai, sF_al, sG_pi, sG_pl, sG_ai, sG_al, sI_pi, sI_pl, sI_al, sI_ai1, sI_ai2, sJ_pi, sJ_pl, sJ_ai, sJ_al1, sJ_al2, Nat.reduceEqDiff, if_true, if_false, ne_eq, not_false_eq_true, ite_true, ite_false, c]
    · show sI (md_ai τ0 147 c.toNatClampNeg (p + 1 + more)) 146 c = _
      simp (disch := lia) only [sF_pi, sF_pl, sF_ai, sF_al, sG_pi, sG_pl, sG_ai, sG_al, sI_pi, sI_pl, sI_al, sI_ai1, sI_ai2, sJ_pi, sJ_pl, sJ_ai, sJ_al1, sJ_al2, Nat.reduceEqDiff, if_true, if_false, ne_eq, not_false_eq_true, ite_true, ite_false]
      rw [rw0 _ _ (by omega) (by omega)]; simp (disch := lia) only [μ1, opM, sF_pi, sF_pl, sF_ai, sF_al, sG_pi, sG_pl, sG_ai, sG_al, sI_pi, sI_pl, sI_al, sI_ai1, sI_ai2, sJ_pi, sJ_pl, sJ_ai, sJ_al1, sJ_al2, Nat.reduceEqDiff, if_true, if_false, ne_eq, not_false_eq_true, ite_true, ite_false]
    · show sI (md_ai τ0 147 c.toNatClampNeg (p + 1 + more)) 147 c = _
      simp (disch := lia) only [sF_pi, sF_pl, sF_ai, sF_al, sG_pi, sG_pl, sG_ai, sG_al, sI_pi, sI_pl, sI_al, sI_ai1, sI_ai2, sJ_pi, sJ_pl, sJ_ai, sJ_al1, sJ_al2, Nat.reduceEqDiff, if_true, if_false, ne_eq, not_false_eq_true, ite_true, ite_false]
    · show sI (md_ai τ0 147 c.toNatClampNeg (p + 1 + more)) 148 c = _
      simp (disch := lia) only [sF_pi, sF_pl, sF_ai, sF_al, sG_pi, sG_pl, sG_ai, sG_al, sI_pi, sI_pl, sI_al, sI_ai1, sI_ai2, sJ_pi, sJ_pl, sJ_ai, sJ_al1, sJ_al2, Nat.reduceEqDiff, if_true, if_false, ne_eq, not_false_eq_true, ite_true, ite_false]
      rw [rw0 _ _ (by omega) (by omega)]; simp (disch := lia) only [μ1, opM, sF_pi, sF_pl, sF_ai, sF_al, sG_pi, sG_pl, sG_ai, sG_al, sI_pi, sI_pl, sI_al, sI_ai1, sI_ai2, sJ_pi, sJ_pl, sJ_ai, sJ_al1, sJ_al2, Nat.reduceEqDiff, if_true, if_false, ne_eq, not_false_eq_true, ite_true, ite_false]
    · show sI (md_ai τ0 147 c.toNatClampNeg (p + 1 + more)) 149 c = _
      simp (disch := lia) only [sF_pi, sF_pl, sF_ai, sF_al, sG_pi, sG_pl, sG_ai, sG_al, sI_pi, sI_pl, sI_al, sI_ai1, sI_ai2, sJ_pi, sJ_pl, sJ_ai, sJ_al1, sJ_al2, Nat.reduceEqDiff, if_true, if_false, ne_eq, not_false_eq_true, ite_true, ite_false]
      rw [rw0 _ _ (by omega) (by omega)]; simp (disch := lia) only [μ1, opM, sF_pi, sF_pl, sF_ai, sF_al, sG_pi, sG_pl, sG_ai, sG_al, sI_pi, sI_pl, sI_al, sI_ai1, sI_ai2, sJ_pi, sJ_pl, sJ_ai, sJ_al1, sJ_al2, Nat.reduceEqDiff, if_true, if_false, ne_eq, not_false_eq_true, ite_true, ite_false, c]
    · show sI (md_ai τ0 147 c.toNatClampNeg (p + 1 + more)) 150 c = _
      simp (disch := lia) only [sF_pi, sF_pl, sF_ai, sF_al, sG_pi, sG_pl, sG_ai, sG_al, sI_pi, sI_pl, sI_al, sI_ai1, sI_ai2, sJ_pi, sJ_pl, sJ_ai, sJ_al1, sJ_al2, Nat.reduceEqDiff, if_true, if_false, ne_eq, not_false_eq_true, ite_true, ite_false]
      rw [rw0 _ _ (by omega) (by omega)]; simp (disch := lia) only [μ1, opM, sF_pi, sF_pl, sF_ai, sF_al, sG_pi, sG_pl, sG_ai, sG_al, sI_pi, sI_pl, sI_al, sI_ai1, sI_ai2, sJ_pi, sJ_pl, sJ_ai, sJ_al1, sJ_al2, Nat.reduceEqDiff, if_true, if_false, ne_eq, not_false_eq_true, ite_true, ite_false, c]
    · show sI (md_ai τ0 147 c.toNatClampNeg (p + 1 + more)) 151 c = _
      simp (disch := lia) only [sF_pi, sF_pl, sF_ai, sF_al, sG_pi, sG_pl, sG_ai, sG_al, sI_pi, sI_pl, sI_al, sI_ai1, sI_ai2, sJ_pi, sJ_pl, sJ_ai, sJ_al1, sJ_al2, Nat.reduceEqDiff, if_true, if_false, ne_eq, not_false_eq_true, ite_true, ite_false]
      rw [rw0 _ _ (by omega) (by omega)]; simp (disch := lia) only [μ1, opM, sF_pi, sF_pl, sF_ai, sF_al, sG_pi, sG_pl, sG_ai, sG_al, sI_pi, sI_pl, sI_al, sI_ai1, sI_ai2, sJ_pi, sJ_pl, sJ_ai, sJ_al1, sJ_al2, Nat.reduceEqDiff, if_true, if_false, ne_eq, not_false_eq_true, ite_true, ite_false, c]
    · show sI (md_ai τ0 147 c.toNatClampNeg (p + 1 + more)) (144 + j) k = sI μ (144 + j) k
      have ne : k ≠ c := by lia
      rw [sI_ai c0' k0, if_neg (fun z => ne z.2), rw0 _ _ (by omega) (by omega)]
      simp only [μ1]
      rw [sI_ai c0' k0, if_neg (fun z => ne z.2), sI_ai c0' k0, if_neg (fun z => ne z.2), sI_ai c0' k0, if_neg (fun z => ne z.2)]
      simp only [opM, sI_pi]
      have c0n : 0 ≤ sF μ 154 := c0
      have ne' : k ≠ sF μ 154 := ne
      rw [sI_ai c0n k0, if_neg (fun z => ne' z.2), sI_ai c0n k0, if_neg (fun z => ne' z.2), sI_ai c0n k0, if_neg (fun z => ne' z.2), sI_ai c0n k0, if_neg (fun z => ne' z.2), sI_ai c0n k0, if_neg (fun z => ne' z.2), sI_ai c0n k0, if_neg (fun z => ne' z.2), sI_ai c0n k0, if_neg (fun z => ne' z.2)]
  show ∃ τ, mm_enterScript N μ b p n wn th = some τ ∧ _ ∧ sF τ 154 = c + 1 ∧ _
  rw [e1]
  by_cases q : more ≤ 0
  · have mz : more = 0 := by lia
    rw [if_pos q]
    by_cases q2 : n ≤ words
    · rw [if_pos q2]
      obtain ⟨υ, a1, a2, a3, a4⟩ := es211_lp (N := N) (σ := μ1) (m := n) (b := p + 1) (w := words) (v8 := more) (v9 := c) (by lia) (by lia) (by lia) n0 q2 N n (by lia) q2 (big_d hN) μ1 mf_rfl (by rw [t1]; lia) ⟨fun k k0 k1 => by exfalso; lia, fun i _ _ => ⟨rfl, rfl⟩⟩
      rw [a1]
      refine fin υ (mf_mono a2 (fun k hk => ?_)) (by rw [a3]; lia) (fun i i0 i1' => ?_) (fun k k0 k1 => ?_) (fun k k0 k1 => by exfalso; lia)
      · simp only [cM, List.contains_cons, List.contains_nil, Bool.or_eq_false_iff, beq_eq_false_iff_ne] at hk ⊢
        (repeat' (first | exact trivial | omega | apply And.intro))
      · have := a4.2 i i0 (.inl (by lia))
        rw [this.1, this.2, i1, j1]; exact ⟨rfl, rfl⟩
      · rw [mz, show p + 1 + 0 + k = p + 1 + k by lia]
        by_cases q3 : k < n
        · have := a4.2 (p + 1 + k) (by lia) (.inl (by lia))
          rw [this.1, this.2, i1, j1, if_pos q3, if_pos q3]; exact ⟨rfl, rfl⟩
        · have := a4.1 (k - n) (by lia) (by lia)
          rw [show p + 1 + n + (k - n) = p + 1 + k by lia] at this
          rw [this.1, this.2, if_neg q3, if_neg q3]; exact ⟨rfl, rfl⟩
    · rw [if_neg q2]
      refine fin (md_pi μ1 143 (p + 1 + words)) (mf_pi mf_rfl rfl) (by simp only [sF_pi, sF_pl, sF_ai, sF_al, sG_pi, sG_pl, sG_ai, sG_al, sI_pi, sI_pl, sI_al, sI_ai1, sI_ai2, sJ_pi, sJ_pl, sJ_ai, sJ_al1, sJ_al2, Nat.reduceEqDiff, if_true, if_false, ne_eq, not_false_eq_true, ite_true, ite_false]; lia) (fun i i0 i1' => by simp only [sF_pi, sF_pl, sF_ai, sF_al, sG_pi, sG_pl, sG_ai, sG_al, sI_pi, sI_pl, sI_al, sI_ai1, sI_ai2, sJ_pi, sJ_pl, sJ_ai, sJ_al1, sJ_al2, Nat.reduceEqDiff, if_true, if_false, ne_eq, not_false_eq_true, ite_true, ite_false]; rw [i1, j1]; exact ⟨rfl, rfl⟩) (fun k k0 k1 => ?_) (fun k k0 k1 => by exfalso; lia)
      rw [mz, show p + 1 + 0 + k = p + 1 + k by lia, if_pos (by lia), if_pos (by lia)]
      simp only [sF_pi, sF_pl, sF_ai, sF_al, sG_pi, sG_pl, sG_ai, sG_al, sI_pi, sI_pl, sI_al, sI_ai1, sI_ai2, sJ_pi, sJ_pl, sJ_ai, sJ_al1, sJ_al2, Nat.reduceEqDiff, if_true, if_false, ne_eq, not_false_eq_true, ite_true, ite_false]; rw [i1, j1]; exact ⟨rfl, rfl⟩
  · rw [if_neg q]
    obtain ⟨h1, h2, h3⟩ : sI μ 78 body ≠ 0 ∧ words < n ∧ more = n - words := by rcases hm with ⟨_, r⟩ | ⟨_, _, r⟩ | r; exact absurd r (by lia); exact absurd r (by lia); exact r
    obtain ⟨υ, g1, g2, g3, g4⟩ := gather_m hN (μ := μ1) (from' := p + 1) (n := n) (by lia) (by lia) n0 (by lia) (fun k k0 k1 => by rw [i1]; exact tt k k0 k1)
    rw [g1]
    simp only [bd]
    have tu : ∀ k, 0 ≤ k → k < n → 0 ≤ sI (md_pi υ 143 (p + 1)) 188 k ∧ sI (md_pi υ 143 (p + 1)) 188 k ≤ 8 := fun k k0 k1 => by
      simp only [sF_pi, sF_pl, sF_ai, sF_al, sG_pi, sG_pl, sG_ai, sG_al, sI_pi, sI_pl, sI_al, sI_ai1, sI_ai2, sJ_pi, sJ_pl, sJ_ai, sJ_al1, sJ_al2, Nat.reduceEqDiff, if_true, if_false, ne_eq, not_false_eq_true, ite_true, ite_false]
      rw [(g4 k k0 k1).1, i1]; exact tt k k0 k1
    obtain ⟨υ2, a1, a2, a3, a4⟩ := es126_lp (N := N) (σ := md_pi υ 143 (p + 1)) (w := words) (n := n) (b := p + 1) (v7 := words) (v8 := more) (v9 := c) (v10 := p + 1) (by lia) (by lia) w0 (by lia) (by lia) tu N words (by lia) (by lia) (big_d hN) (md_pi υ 143 (p + 1)) mf_rfl (by simp only [sF_pi, sF_pl, sF_ai, sF_al, sG_pi, sG_pl, sG_ai, sG_al, sI_pi, sI_pl, sI_al, sI_ai1, sI_ai2, sJ_pi, sJ_pl, sJ_ai, sJ_al1, sJ_al2, Nat.reduceEqDiff, if_true, if_false, ne_eq, not_false_eq_true, ite_true, ite_false]; lia) ⟨fun k k0 k1 => by exfalso; lia, fun i _ _ => ⟨rfl, rfl⟩⟩
    rw [a1]
    have r188 : ∀ k, sI υ2 188 k = sI υ 188 k := fun k => by rw [mf_I a2 rfl]; simp only [sF_pi, sF_pl, sF_ai, sF_al, sG_pi, sG_pl, sG_ai, sG_al, sI_pi, sI_pl, sI_al, sI_ai1, sI_ai2, sJ_pi, sJ_pl, sJ_ai, sJ_al1, sJ_al2, Nat.reduceEqDiff, if_true, if_false, ne_eq, not_false_eq_true, ite_true, ite_false]
    have r189 : ∀ k, sJ υ2 189 k = sJ υ 189 k := fun k => by rw [mf_J a2 rfl]; simp only [sF_pi, sF_pl, sF_ai, sF_al, sG_pi, sG_pl, sG_ai, sG_al, sI_pi, sI_pl, sI_al, sI_ai1, sI_ai2, sJ_pi, sJ_pl, sJ_ai, sJ_al1, sJ_al2, Nat.reduceEqDiff, if_true, if_false, ne_eq, not_false_eq_true, ite_true, ite_false]
    obtain ⟨υ3, b1', b2, b3, b4⟩ := es159_lp (N := N) (σ := υ2) (n := words) (b := p + 1 + more) (v8 := more) (v9 := c) (v10 := p + 1) (by lia) (by lia) w0 (by lia) (fun k k0 k1 => by
      rw [r188]
      have := tu k k0 (by lia)
      simp only [sF_pi, sF_pl, sF_ai, sF_al, sG_pi, sG_pl, sG_ai, sG_al, sI_pi, sI_pl, sI_al, sI_ai1, sI_ai2, sJ_pi, sJ_pl, sJ_ai, sJ_al1, sJ_al2, Nat.reduceEqDiff, if_true, if_false, ne_eq, not_false_eq_true, ite_true, ite_false] at this
      exact this) N 0 (by decide) w0 (big_d hN) υ2 mf_rfl (by rw [a3]; lia) ⟨fun k k0 k1 => by exfalso; lia, fun i _ _ => ⟨rfl, rfl⟩⟩
    rw [b1']
    have lo : ∀ i, sI (md_pi υ 143 (p + 1)) 141 i = sI μ 141 i ∧ sJ (md_pi υ 143 (p + 1)) 142 i = sJ μ 142 i := fun i => by
      simp only [sF_pi, sF_pl, sF_ai, sF_al, sG_pi, sG_pl, sG_ai, sG_al, sI_pi, sI_pl, sI_al, sI_ai1, sI_ai2, sJ_pi, sJ_pl, sJ_ai, sJ_al1, sJ_al2, Nat.reduceEqDiff, if_true, if_false, ne_eq, not_false_eq_true, ite_true, ite_false]
      rw [mf_I g2 rfl, mf_J g2 rfl, i1, j1]; exact ⟨rfl, rfl⟩
    refine fin υ3 (mf_tr (mf_mono g2 (fun k hk => ?_)) (mf_tr (mf_pi (σ := υ) mf_rfl rfl) (mf_tr (mf_mono a2 (fun k hk => ?_)) (mf_mono b2 (fun k hk => ?_))))) (by rw [b3]) (fun i i0 i1' => ?_) (fun k k0 k1 => ?_) (fun k k0 k1 => ?_)
    · simp only [vM, List.contains_cons, List.contains_nil, Bool.or_eq_false_iff, beq_eq_false_iff_ne] at hk ⊢
      (repeat' (first | exact trivial | omega | apply And.intro))
    · simp only [cM, List.contains_cons, List.contains_nil, Bool.or_eq_false_iff, beq_eq_false_iff_ne] at hk ⊢
      (repeat' (first | exact trivial | omega | apply And.intro))
    · simp only [cM, List.contains_cons, List.contains_nil, Bool.or_eq_false_iff, beq_eq_false_iff_ne] at hk ⊢
      (repeat' (first | exact trivial | omega | apply And.intro))
    · have q1 := b4.2 i i0 (.inl (by lia))
      have q2 := a4.2 i i0 (.inl (by lia))
      rw [q1.1, q1.2, q2.1, q2.2]; exact lo i
    · have q1 := b4.1 k k0 k1
      have q2 := g4 k k0 (by lia)
      rw [q1.1, q1.2, r188, r189, q2.1, q2.2, i1, j1, if_pos (by lia), if_pos (by lia)]; exact ⟨rfl, rfl⟩
    · have q1 := b4.2 (p + 1 + k) (by lia) (.inl (by lia))
      have q2 := a4.1 k k0 (by lia)
      have q3 := g4 (words + k) (by lia) (by lia)
      rw [q1.1, q1.2, q2.1, q2.2]
      simp only [sF_pi, sF_pl, sF_ai, sF_al, sG_pi, sG_pl, sG_ai, sG_al, sI_pi, sI_pl, sI_al, sI_ai1, sI_ai2, sJ_pi, sJ_pl, sJ_ai, sJ_al1, sJ_al2, Nat.reduceEqDiff, if_true, if_false, ne_eq, not_false_eq_true, ite_true, ite_false]
      rw [q3.1, q3.2, i1, j1]; exact ⟨rfl, rfl⟩
