/-! LAYER 2: the collectors: the world of what stays -/
def fl1 (g : Int32 → Bool) (l : PL2) : PL2 := l.filter (fun p => g p.1)
theorem fl1_m {g : Int32 → Bool} {l : PL2} {p : Int32 × Int32} : p ∈ fl1 g l ↔ p ∈ l ∧ g p.1 = true := List.mem_filter
theorem fl1_f {g : Int32 → Bool} : ∀ {l : PL2}, (fl1 g l).map Prod.fst = (l.map Prod.fst).filter g
  | [] => rfl
  | p :: l => by
    have ih := fl1_f (g := g) (l := l)
    simp only [fl1] at ih
    by_cases h : g p.1 = true
    · simp only [fl1, List.filter_cons, List.map_cons, h, if_true, ih]
    · simp only [fl1, List.filter_cons, List.map_cons, h]
      simp only [Bool.false_eq_true, if_false]
      exact ih
theorem fl1_nd {g : Int32 → Bool} {l : PL2} (h : (l.map Prod.snd).Nodup) : ((fl1 g l).map Prod.snd).Nodup := List.Nodup.sublist (List.Sublist.map _ List.filter_sublist) h
theorem fl1_b {g : Int32 → Bool} {l : PL2} (h : bij l) : bij (fl1 g l) := fun a b c d h1 h2 => h a b c d (fl1_m.mp h1).1 (fl1_m.mp h2).1
theorem fl1_s {g : Int32 → Bool} {l : PL2} {b : Int32} : b ∈ (fl1 g l).map Prod.snd ↔ ∃ a, (a, b) ∈ l ∧ g a = true := by
  rw [List.mem_map]
  refine ⟨fun ⟨p, h1, h2⟩ => ?_, fun ⟨a, h1, h2⟩ => ⟨(a, b), fl1_m.mpr ⟨h1, h2⟩, rfl⟩⟩
  obtain ⟨a, b'⟩ := p
  have h2' : b' = b := h2
  subst h2'
  exact ⟨a, fl1_m.mp h1⟩
def fW (g : Nat → Int32 → Bool) (w : WD) : WD := (fl1 (g 1) (wS w), wX w, fl1 (g 2) (wT w), fl1 (g 3) (wF w), fl1 (g 4) (wB w), fl1 (g 5) (wC w))
theorem fW_S {g : Nat → Int32 → Bool} {w : WD} {p : Int32 × Int32} : p ∈ wS (fW g w) ↔ p ∈ wS w ∧ g 1 p.1 = true := fl1_m
theorem fW_T {g : Nat → Int32 → Bool} {w : WD} {p : Int32 × Int32} : p ∈ wT (fW g w) ↔ p ∈ wT w ∧ g 2 p.1 = true := fl1_m
theorem fW_F {g : Nat → Int32 → Bool} {w : WD} {p : Int32 × Int32} : p ∈ wF (fW g w) ↔ p ∈ wF w ∧ g 3 p.1 = true := fl1_m
theorem fW_B {g : Nat → Int32 → Bool} {w : WD} {p : Int32 × Int32} : p ∈ wB (fW g w) ↔ p ∈ wB w ∧ g 4 p.1 = true := fl1_m
theorem fW_C {g : Nat → Int32 → Bool} {w : WD} {p : Int32 × Int32} : p ∈ wC (fW g w) ↔ p ∈ wC w ∧ g 5 p.1 = true := fl1_m
theorem fW_X {g : Nat → Int32 → Bool} {w : WD} : wX (fW g w) = wX w := rfl
theorem fW_le {g : Nat → Int32 → Bool} {w : WD} : wle (fW g w) w := ⟨fun _ h => (fW_S.mp h).1, fun _ h => h, fun _ h => (fW_T.mp h).1, fun _ h => (fW_F.mp h).1, fun _ h => (fW_B.mp h).1, fun _ h => (fW_C.mp h).1⟩
theorem fW_OK {g : Nat → Int32 → Bool} {w : WD} (W : WOK w) : WOK (fW g w) := ⟨fl1_b W.1, fl1_b W.2.1, fl1_b W.2.2.1, fl1_b W.2.2.2.1, fun a b h => W.2.2.2.2.1 a b (fW_F.mp h).1, fun a b h => W.2.2.2.2.2 a b (fW_C.mp h).1⟩
theorem VV_fW {g : Nat → Int32 → Bool} {w : WD} (P : PRK w) {tx tm : Int32} {vx vm : Int64} (v : VV w tx vx tm vm) (h : ∀ y : OB2, rfx tx vx y → g y.1 y.2 = true) : VV (fW g w) tx vx tm vm := by
  obtain ⟨p1, _, p2, p3, p4, p5⟩ := P
  rcases v with v | v | v | v | ⟨v1, v2, a, b, v3, v4, v5⟩ | ⟨v1, v2, a, b, v3, v4, v5⟩ | ⟨v1, v2, a, b, v3, v4, v5⟩ | ⟨v1, v2, a, b, v3, v4, v5⟩ | ⟨v1, v2, a, b, v3, v4, v5⟩
  · exact .inl v
  · exact .inr (.inl v)
  · exact .inr (.inr (.inl v))
  · exact .inr (.inr (.inr (.inl v)))
  · refine .inr (.inr (.inr (.inr (.inl ⟨v1, v2, a, b, v3, v4, ?_⟩))))
    rcases v5 with v5 | v5
    · exact .inl (fW_S.mpr ⟨v5, h (1, a) (.inl ⟨v1, by rw [v3, i32_64], by rw [v3, i32_64]; exact (p1 a b v5).1.2⟩)⟩)
    · exact .inr v5
  · exact .inr (.inr (.inr (.inr (.inr (.inl ⟨v1, v2, a, b, v3, v4, fW_T.mpr ⟨v5, h (2, a) (.inr (.inl ⟨v1, by rw [v3, i32_64]⟩))⟩⟩)))))
  · refine .inr (.inr (.inr (.inr (.inr (.inr (.inl ⟨v1, v2, a, b, v3, v4, ?_⟩))))))
    rcases v5 with v5 | v5
    · exact .inl (fW_F.mpr ⟨v5, h (3, a) (.inr (.inr (.inl ⟨v1, by rw [v3, i32_64], by rw [v3, i32_64]; exact (p3 a b v5).1.1⟩)))⟩)
    · exact .inr v5
  · refine .inr (.inr (.inr (.inr (.inr (.inr (.inr (.inl ⟨v1, v2, a, b, v3, v4, ?_⟩)))))))
    rcases v5 with v5 | v5
    · exact .inl (fW_C.mpr ⟨v5, h (5, a) (.inr (.inr (.inr (.inl ⟨v1, by rw [v3, i32_64], by rw [v3, i32_64]; exact (p5 a b v5).1.1⟩))))⟩)
    · exact .inr v5
  · exact v5.elim
/-- what a value of a call means stays -/
def gR (g : Nat → Int32 → Bool) (σ : mS) (f r : Int32) : Prop := ∀ y : OB2, rfx (xt σ f r) (xv σ f r) y → g y.1 y.2 = true
theorem RV_fW {g : Nat → Int32 → Bool} {w : WD} (P : PRK w) {σ : mS} {f x tm : Int32} {vm : Int64} (h : RV w σ f x tm vm) (hg : 0 ≤ dc x → gR g σ f (dc x)) : RV (fW g w) σ f x tm vm := by
  rcases h with h | ⟨h0, h⟩ | ⟨h0, h1, h2, a, b, h3, h4, h5, h6⟩ | h | ⟨h0, h, h1⟩
  · exact .inl h
  · have g' := hg (by rw [dc_p h0]; exact h0)
    rw [dc_p h0] at g'
    exact .inr (.inl ⟨h0, VV_fW P h g'⟩)
  · have g' := hg (dc_0 h0)
    exact .inr (.inr (.inl ⟨h0, h1, h2, a, b, h3, h4, fW_B.mpr ⟨h5, g' (4, a) (.inr (.inr (.inr (.inr ⟨h1, by rw [h3, i32_64]⟩))))⟩, h6⟩))
  · exact .inr (.inr (.inr (.inl h)))
  · exact .inr (.inr (.inr (.inr ⟨h0, VV_fW P h (hg (dc_0 (Int32.le_trans h0 (by decide)))), h1⟩)))
theorem RG_fW {g : Nat → Int32 → Bool} {w : WD} (P : PRK w) {σ : mS} {f : Int32} {pt : Int32 → Int32} {pv : Int32 → Int64} : ∀ {ρ : List Int32} {B : Int32}, RG w σ f pt pv B ρ → (∀ x, x ∈ ρ → 0 ≤ dc x → gR g σ f (dc x)) → RG (fW g w) σ f pt pv B ρ
  | [], _, _, _ => trivial
  | x :: ρ, B, h, hg => ⟨RV_fW P h.1 (hg x List.mem_cons_self), RG_fW P h.2 (fun y hy => hg y (List.mem_cons_of_mem _ hy))⟩
theorem rng_at {r n x : Int32} (h0 : 0 ≤ r) (h1 : r ≤ 2500) (n1 : n ≤ 100) (h : x ∈ rng r n) : ∃ k, 0 ≤ k ∧ k < n ∧ x = r + k ∧ 0 ≤ x := by
  obtain ⟨k, k0, k1, rfl⟩ := rng_mem h
  exact ⟨k, k0, k1, rfl, by clear h; lia⟩
/-- what can be come to from the calls stays -/
def gF (g : Nat → Int32 → Bool) (σ : mS) (l : List Int32) : Prop := ∀ f, f ∈ l → sI σ 355 f = 0 → ∀ y : OB2, frx σ f y → g y.1 y.2 = true
theorem SW_fW {g : Nat → Int32 → Bool} {S : SR} {w : WD} (P : PRK w) {σ : mS} {ff : Int32 → Nat → Int32} {pt : Int32 → Int32} {pv : Int32 → Int64} {f k : Int32} {ct : CT} (h : SW S w σ ff pt pv f k ct) (hg : ∀ y : OB2, frx σ f y → g y.1 y.2 = true) : SW S (fW g w) σ ff pt pv f k ct := by
  obtain ⟨ρ, ⟨c1, c2, c3, c4, c5, c6, c7, c8, c9, c10, c11, c12, c13⟩, q2, q3, q4, q5, q6⟩ := h
  refine ⟨ρ, ⟨c1, c2, c3, fW_F.mpr ⟨c4, hg (3, sI σ 343 f) (.inl rfl)⟩, c5, c6, c7, c8, c9, RG_fW P c10 (fun x hx d0 => ?_), RG_fW P c11 (fun x hx d0 => ?_), c12, c13⟩, q2, q3, q4, q5, q6⟩
  · intro y hy
    exact hg y (.inr (.inl ⟨dc x, d0, q6.1 x hx, hy⟩))
  · obtain ⟨r, r0, r1, e, x0⟩ := rng_at (Int32.le_of_lt c9.2.1) c9.2.2 c7.2.2 hx
    intro y hy
    rw [dc_p x0, e] at hy
    exact hg y (.inr (.inr ⟨r, r0, by rw [c7.1]; exact r1, hy⟩))
theorem FL_fW {g : Nat → Int32 → Bool} {S : SR} {w : WD} (P : PRK w) {σ : mS} {ff : Int32 → Nat → Int32} {pt : Int32 → Int32} {pv : Int32 → Int64} {bt k0 B0 : Int32} : ∀ {fl : List Int32} {n : Int32} {ct : CT}, FL S w σ ff pt pv bt k0 B0 fl n ct → gF g σ fl → FL S (fW g w) σ ff pt pv bt k0 B0 fl n ct
  | [], _, _, h, _ => h
  | f :: fl, n, ct, h, hg => by
    obtain ⟨h1, h2, h3, h4⟩ := h
    refine ⟨h1, h2, ?_, FL_fW P h4 (fun x hx => hg x (List.mem_cons_of_mem _ hx))⟩
    rcases h3 with h3 | h3
    · exact .inl h3
    · refine .inr (SW_fW P h3 (hg f List.mem_cons_self ?_))
      obtain ⟨ρ, fc, _⟩ := h3
      exact fc.2.1
theorem cKd_fW {g : Nat → Int32 → Bool} {S : SR} {w : WD} (P : PRK w) {xf : Int32 → List Int32} {σ μ : mS} {c d : Int32} (H : cKd S w xf σ μ c d) {es : Int32 → List Int32} (hg : ∀ y : OB2, edx σ es xf (5, c) y → g y.1 y.2 = true) : cKd S (fW g w) xf σ μ c d := by
  rcases H with h | ⟨a1, a2, a3, a4, a5, a6⟩ | ⟨a1, a2, a3, a4, a5⟩
  · exact .inl h
  · refine .inr (.inl ⟨a1, a2, a3, a4, VV_fW P a5 (fun y hy => hg y (.inr (.inr (.inr ⟨rfl, .inl ?_⟩)))), a6⟩)
    show rfx (sI σ 324 c) (sJ σ 325 c) y
    rw [a3]; exact hy
  · exact .inr (.inr ⟨a1, a2, a3, FL_fW P a4 (fun f hf h355 y hy => hg y (.inr (.inr (.inr ⟨rfl, .inr ⟨f, hf, h355, hy⟩⟩)))), a5⟩)
/-! lists of things on both sides -/
theorem CM_perm {σ : mS} {o o' : List Int32} (H : CM σ o) (h : o.Perm o') : CM σ o' := ⟨FS_perm H.1 h, by rw [← h.length_eq]; exact H.2.1, H.2.2⟩
theorem BM_perm {σ : mS} {o o' : List Int32} (H : BM σ o) (h : o.Perm o') : BM σ o' := ⟨FS_perm H.1 h, by rw [← h.length_eq]; exact H.2⟩
theorem FTm_perm {σ : mS} {o o' : List Int32} (H : FTm σ o) (h : o.Perm o') : FTm σ o' := by
  obtain ⟨a1, a2, a3, a4, a5, a6⟩ := H
  refine ⟨a1, a2, fun i i0 i1 => ?_, a4, by rw [← h.length_eq]; exact a5, by rw [← h.length_eq]; exact a6⟩
  obtain ⟨b1, b2, b3⟩ := a3 i i0 i1
  exact ⟨b1, b2, fun q => b3 (h.mem_iff.mpr q)⟩
theorem nsum_pm {l l' : List Nat} (h : l.Perm l') : l.sum = l'.sum := by
  induction h with
  | nil => rfl
  | cons x _ ih => simp only [List.sum_cons, ih]
  | swap x y l => simp only [List.sum_cons]; omega
  | trans _ _ h1 h2 => rw [h1, h2]
theorem MM_perm {σ : mS} {o o' : List Int32} {es ps : Int32 → List Int32} (H : MM σ o es ps) (h : o.Perm o') : MM σ o' es ps := by
  obtain ⟨⟨f1, f2, f3⟩, h1, ⟨e1, e2, e3, e4, e5, e6, e7, e8⟩⟩ := H
  have hm : ∀ {t}, t ∈ o' → t ∈ o := fun q => h.mem_iff.mpr q
  have hs := nsum_pm (h.map (fun t => (es t).length))
  refine ⟨⟨fun t ht => f1 t (hm ht), fun p p0 p1 => ?_, fun t ht => f3 t (hm ht)⟩, fun t ht => h1 t (hm ht), ⟨h.nodup_iff.mp e1, fun t ht => e2 t (hm ht), e3, e4, fun i i0 i1 => ?_, e6, by rw [← hs]; exact e7, by rw [← hs]; exact e8⟩⟩
  · obtain ⟨a, b, c⟩ := f2 p p0 p1
    refine ⟨a, b, fun e => ?_⟩
    rw [c e]
    refine and_congr ⟨fun ⟨t, ht, he⟩ => ⟨t, h.mem_iff.mp ht, he⟩, fun ⟨t, ht, he⟩ => ⟨t, hm ht, he⟩⟩ Iff.rfl
  · obtain ⟨a, b, c⟩ := e5 i i0 i1
    exact ⟨a, b, fun t ht => c t (hm ht)⟩
/-- sums over pairs -/
theorem psum {f g : Int32 → Int} : ∀ {l : PL2}, (∀ a b, (a, b) ∈ l → f a = g b) → ((l.map Prod.fst).map f).sum = ((l.map Prod.snd).map g).sum
  | [], _ => rfl
  | (a, b) :: l, h => by
    simp only [List.map_cons, List.sum_cons]
    rw [h a b List.mem_cons_self, psum (fun x y hy => h x y (List.mem_cons_of_mem _ hy))]
/-- lists that are filtered alike -/
theorem F2_flt {R R' : Int32 → Int32 → Prop} {p p' : Int32 → Bool} : ∀ {l m : List Int32}, F2 R l m → (∀ x y, x ∈ l → y ∈ m → R x y → (p x = p' y) ∧ (p x = true → R' x y)) → F2 R' (l.filter p) (m.filter p')
  | [], [], _, _ => trivial
  | x :: l, y :: m, h, hp => by
    have ih := F2_flt (R' := R') h.2 (fun a b ha hb => hp a b (List.mem_cons_of_mem _ ha) (List.mem_cons_of_mem _ hb))
    obtain ⟨e, q⟩ := hp x y List.mem_cons_self List.mem_cons_self h.1
    rw [List.filter_cons, List.filter_cons, ← e]
    by_cases c : p x = true
    · rw [if_pos c, if_pos c]; exact ⟨q c, ih⟩
    · rw [if_neg c, if_neg c]; exact ih
  | [], _ :: _, h, _ => h.elim
  | _ :: _, [], h, _ => h.elim
