/-! LAYER 2: the system's collector: a value is marked -/
/-- what a value means -/
def rfx (t : Int32) (v : Int64) (o : OB2) : Prop := (t = 4 ∧ o = (1, v.toInt32) ∧ v.toInt32 < 12000) ∨ (t = 5 ∧ o = (2, v.toInt32)) ∨ (t = 6 ∧ o = (3, v.toInt32) ∧ 0 ≤ v.toInt32) ∨ (t = 7 ∧ o = (5, v.toInt32) ∧ 0 < v.toInt32) ∨ (t = 8 ∧ o = (4, v.toInt32))
/-- what can be come to from a thing, at once -/
def edx (σ : mS) (es xf : Int32 → List Int32) (o y : OB2) : Prop :=
  (o.1 = 2 ∧ ((sI σ 195 o.2 ≠ -1 ∧ y = (2, sI σ 195 o.2)) ∨ ∃ e, e ∈ es o.2 ∧ sI σ 214 e ≠ 0 ∧ (rfx (sI σ 212 e) (sJ σ 213 e) y ∨ rfx (sI σ 214 e) (sJ σ 215 e) y)))
  ∨ (o.1 = 3 ∧ ((∃ k, 0 ≤ k ∧ k < sI σ 224 o.2 ∧ y = (4, sI σ 231 (sI σ 223 o.2 + k))) ∨ (sI σ 222 o.2 < 0 ∧ y = (5, -1 - sI σ 222 o.2))))
  ∨ (o.1 = 4 ∧ rfx (sI σ 233 o.2) (sJ σ 234 o.2) y)
  ∨ (o.1 = 5 ∧ (rfx (sI σ 324 o.2) (sJ σ 325 o.2) y ∨ ∃ f, f ∈ xf o.2 ∧ sI σ 355 f = 0 ∧ (y = (3, sI σ 343 f) ∨ (∃ k, 0 ≤ k ∧ k < sI σ 353 f ∧ rfx (xt σ f k) (xv σ f k) y) ∨ (∃ k, 0 ≤ k ∧ k < sI σ 348 f ∧ rfx (xt σ f (sI σ 261 (sI σ 344 f) + k)) (xv σ f (sI σ 261 (sI σ 344 f) + k)) y))))
/-- what is come to is in range -/
def CEN (σ0 : mS) (es xf : Int32 → List Int32) (R : OB2 → Prop) : Prop := (∀ o y, R o → edx σ0 es xf o y → R y) ∧ (∀ o, R o → okx o) ∧ (∀ b, R (4, b) → sI σ0 233 b ≠ 8)
theorem edx_1 {σ : mS} {es xf : Int32 → List Int32} {x : Int32} {y : OB2} : ¬ edx σ es xf (1, x) y := fun h => by
  rcases h with ⟨h, _⟩ | ⟨h, _⟩ | ⟨h, _⟩ | ⟨h, _⟩
  · exact absurd (show (1 : Nat) = 2 from h) (by decide)
  · exact absurd (show (1 : Nat) = 3 from h) (by decide)
  · exact absurd (show (1 : Nat) = 4 from h) (by decide)
  · exact absurd (show (1 : Nat) = 5 from h) (by decide)
theorem edx_4 {σ : mS} {es xf : Int32 → List Int32} {x : Int32} {y : OB2} : edx σ es xf (4, x) y ↔ rfx (sI σ 233 x) (sJ σ 234 x) y := by
  refine ⟨fun h => ?_, fun h => .inr (.inr (.inl ⟨rfl, h⟩))⟩
  rcases h with ⟨h, _⟩ | ⟨h, _⟩ | ⟨_, h⟩ | ⟨h, _⟩
  · exact absurd (show (4 : Nat) = 2 from h) (by decide)
  · exact absurd (show (4 : Nat) = 3 from h) (by decide)
  · exact h
  · exact absurd (show (4 : Nat) = 5 from h) (by decide)
theorem JX_ex {σ0 τ : mS} {R : OB2 → Prop} {E : OB2 → OB2 → Prop} {ex ex' : OB2 → Prop} {Gd L : Nat → List Int32} (J : JX σ0 R E ex' τ Gd L) (h : ∀ o, okx o → mkx τ o → ex' o → ¬ ex o → ∀ y, E o y → okx y → mkx τ y) : JX σ0 R E ex τ Gd L := by
  obtain ⟨j1, j2, j3, j4, j5, j6, j7⟩ := J
  refine ⟨j1, j2, j3, j4, j5, j6, fun o ho hm hex hpl y hE hy => ?_⟩
  by_cases c : ex' o
  · exact h o ho hm c hex y hE hy
  · exact j7 o ho hm c hpl y hE hy
theorem okx_1 {x : Int32} (h : okx (1, x)) : 0 ≤ x ∧ x < 12000 := by
  rcases h with ⟨_, h⟩ | ⟨h, _⟩ | ⟨h, _⟩ | ⟨h, _⟩ | ⟨h, _⟩
  · exact h
  · exact absurd (show (1 : Nat) = 2 from h) (by decide)
  · exact absurd (show (1 : Nat) = 3 from h) (by decide)
  · exact absurd (show (1 : Nat) = 4 from h) (by decide)
  · exact absurd (show (1 : Nat) = 5 from h) (by decide)
theorem okx_2 {x : Int32} (h : okx (2, x)) : 0 ≤ x ∧ x < 3000 := by
  rcases h with ⟨h, _⟩ | ⟨_, h⟩ | ⟨h, _⟩ | ⟨h, _⟩ | ⟨h, _⟩
  · exact absurd (show (2 : Nat) = 1 from h) (by decide)
  · exact h
  · exact absurd (show (2 : Nat) = 3 from h) (by decide)
  · exact absurd (show (2 : Nat) = 4 from h) (by decide)
  · exact absurd (show (2 : Nat) = 5 from h) (by decide)
theorem okx_3 {x : Int32} (h : okx (3, x)) : 0 ≤ x ∧ x < 4000 := by
  rcases h with ⟨h, _⟩ | ⟨h, _⟩ | ⟨_, h⟩ | ⟨h, _⟩ | ⟨h, _⟩
  · exact absurd (show (3 : Nat) = 1 from h) (by decide)
  · exact absurd (show (3 : Nat) = 2 from h) (by decide)
  · exact h
  · exact absurd (show (3 : Nat) = 4 from h) (by decide)
  · exact absurd (show (3 : Nat) = 5 from h) (by decide)
theorem okx_4 {x : Int32} (h : okx (4, x)) : 0 ≤ x ∧ x < 12000 := by
  rcases h with ⟨h, _⟩ | ⟨h, _⟩ | ⟨h, _⟩ | ⟨_, h⟩ | ⟨h, _⟩
  · exact absurd (show (4 : Nat) = 1 from h) (by decide)
  · exact absurd (show (4 : Nat) = 2 from h) (by decide)
  · exact absurd (show (4 : Nat) = 3 from h) (by decide)
  · exact h
  · exact absurd (show (4 : Nat) = 5 from h) (by decide)
theorem okx_5 {x : Int32} (h : okx (5, x)) : 0 < x ∧ x < 121 := by
  rcases h with ⟨h, _⟩ | ⟨h, _⟩ | ⟨h, _⟩ | ⟨h, _⟩ | ⟨_, h⟩
  · exact absurd (show (5 : Nat) = 1 from h) (by decide)
  · exact absurd (show (5 : Nat) = 2 from h) (by decide)
  · exact absurd (show (5 : Nat) = 3 from h) (by decide)
  · exact absurd (show (5 : Nat) = 4 from h) (by decide)
  · exact h
theorem nar_b1 : vp_nar .boolean (1 : Int32) = 1 := by decide
theorem cap_2 : cap 2 = 3000 := rfl
theorem cap_3 : cap 3 = 4000 := rfl
theorem cap_5 : cap 5 = 121 := rfl
/-- what a mark leaves -/
def MKD (σ0 : mS) (R : OB2 → Prop) (E : OB2 → OB2 → Prop) (ex : OB2 → Prop) (τ : mS) (Gd : Nat → List Int32) (T : OB2 → Prop) (o : Option mS) : Prop := ∃ τ' L', o = some τ' ∧ JX σ0 R E ex τ' Gd L' ∧ (∀ y, okx y → mkx τ y → mkx τ' y) ∧ (∀ y, T y → mkx τ' y)
theorem MKD_0 {σ0 τ : mS} {R : OB2 → Prop} {E : OB2 → OB2 → Prop} {ex T : OB2 → Prop} {Gd L : Nat → List Int32} (J : JX σ0 R E ex τ Gd L) (h : ∀ y, T y → mkx τ y) : MKD σ0 R E ex τ Gd T (some τ) := ⟨τ, L, rfl, J, fun _ _ h => h, h⟩
/-- a table, a function, a coroutine -/
theorem mark_p {σ0 τ : mS} {R : OB2 → Prop} {E : OB2 → OB2 → Prop} {ex : OB2 → Prop} {Gd L : Nat → List Int32} (J : JX σ0 R E ex τ Gd L) {k : Nat} {x : Int32} (hk : pk k) (ho : okx (k, x)) (hR : R (k, x)) {om : Option mS} (h0 : sI τ (mkf k) x = 0 → ∀ c, sF τ (pcf k) = c → 0 ≤ c → c.toInt < cap k → om = some (psh τ k x c)) (h1 : sI τ (mkf k) x ≠ 0 → om = some τ) : MKD σ0 R E ex τ Gd (fun y => y = (k, x)) om := by
  by_cases c : sI τ (mkf k) x = 0
  · have nm : ¬ mkx τ (k, x) := fun h => absurd (c.symm.trans (h : sI τ (mkf k) x = 1)) (by decide)
    obtain ⟨cc, p1, p2, p3, p4, p5, p6⟩ := push_J J hk ho hR nm
    exact ⟨_, _, h0 c cc p1 p2 p3, p4, p5, fun y hy => by rw [hy]; exact p6⟩
  · rw [h1 c]
    refine MKD_0 J (fun y hy => ?_)
    rw [hy]
    exact (J.2.2.2.2.1 (k, x) ho).resolve_left c
theorem mark5 {N : Nat} {σ0 τ : mS} {R : OB2 → Prop} {E : OB2 → OB2 → Prop} {ex : OB2 → Prop} {Gd L : Nat → List Int32} (J : JX σ0 R E ex τ Gd L) {x : Int32} (ho : 0 < x → R (5, x) ∧ okx (5, x)) : MKD σ0 R E ex τ Gd (fun y => y = (5, x) ∧ 0 < x) (xx5_mark N τ x) := by
  rw [xx5_mark]
  by_cases c : x ≤ 0
  · rw [if_pos c]
    exact MKD_0 J (fun y hy => absurd hy.2 (Int32.not_lt.mpr c))
  · have x1 := Int32.not_le.mp c
    obtain ⟨hR, hk⟩ := ho x1
    have b := okx_5 hk
    have b0 := Int32.le_of_lt b.1
    rw [if_neg c, gd_in (by decide) b0 b.2]
    obtain ⟨τ', L', q1, q2, q3, q4⟩ := mark_p J (k := 5) (.inr (.inr rfl)) hk hR (om := if τ.2.2.1 340 x.toNatClampNeg = 0 then gd (inB x 121) (lt (md_ai τ 340 x.toNatClampNeg (vp_nar .boolean (1))) (fun σ1 : mS => lt (σ1.1 342) (fun x2 : Int32 => lt (md_pi σ1 342 (x2 + 1)) (fun σ3 : mS => gd (inB x2 121) (lt (md_ai σ3 341 x2.toNatClampNeg x) (fun σ4 : mS => xx5_mark_b37 N σ4)))))) else xx5_mark_b37 N τ) (fun h0 cc hc c0 c1 => by
      have c1' : cc < 121 := by rw [cap_5] at c1; exact tI_lt.mpr c1
      have h0' : τ.2.2.1 340 x.toNatClampNeg = 0 := h0
      have hc' : (md_ai τ 340 x.toNatClampNeg 1).1 342 = cc := hc
      rw [if_pos h0', gd_in (by decide) b0 b.2, nar_b1, lt, hc', lt, lt, gd_in (by decide) c0 c1', lt]
      rfl) (fun h0 => by
      have h0' : ¬ τ.2.2.1 340 x.toNatClampNeg = 0 := h0
      rw [if_neg h0']
      rfl)
    exact ⟨τ', L', q1, q2, q3, fun y hy => q4 y hy.1⟩
theorem rfx_n {t : Int32} {v : Int64} {o : OB2} (h : rfx t v o) : t = 4 ∨ t = 5 ∨ t = 6 ∨ t = 7 ∨ t = 8 := by
  rcases h with ⟨h, _⟩ | ⟨h, _⟩ | ⟨h, _⟩ | ⟨h, _⟩ | ⟨h, _⟩
  · exact .inl h
  · exact .inr (.inl h)
  · exact .inr (.inr (.inl h))
  · exact .inr (.inr (.inr (.inl h)))
  · exact .inr (.inr (.inr (.inr h)))
theorem MKD_T {σ0 τ : mS} {R : OB2 → Prop} {E : OB2 → OB2 → Prop} {ex T T' : OB2 → Prop} {Gd : Nat → List Int32} {o : Option mS} (H : MKD σ0 R E ex τ Gd T o) (h : ∀ y, T' y → T y) : MKD σ0 R E ex τ Gd T' o := by
  obtain ⟨τ', L', q1, q2, q3, q4⟩ := H
  exact ⟨τ', L', q1, q2, q3, fun y hy => q4 y (h y hy)⟩
theorem mark_b {N : Nat} {T : ty_xx3_mark} {o : Option mS} : bd o (fun z => xx3_mark_b156 N T z) = o := bd_me (fun z => rfl)
/-- a value that isn't a box -/
theorem mark_v {N : Nat} {T : ty_xx3_mark} {σ0 τ : mS} {es xf : Int32 → List Int32} {R : OB2 → Prop} {ex : OB2 → Prop} {Gd L : Nat → List Int32} (J : JX σ0 R (edx σ0 es xf) ex τ Gd L) {t : Int32} {v : Int64} (hr : ∀ o, rfx t v o → R o ∧ okx o) (t8 : t ≠ 8) : MKD σ0 R (edx σ0 es xf) ex τ Gd (rfx t v) (bxx3_mark N T τ t v) := by
  rw [bxx3_mark, lt]
  generalize ei : v.toInt32 = i
  by_cases c4 : t = 4
  · subst c4
    rw [if_pos rfl, mark_b, xx2_mark]
    by_cases c : 12000 ≤ i
    · rw [if_pos c]
      refine MKD_0 J (fun y hy => ?_)
      rcases hy with ⟨_, _, h⟩ | ⟨h, _⟩ | ⟨h, _⟩ | ⟨h, _⟩ | ⟨h, _⟩
      · rw [ei] at h; exact absurd h (Int32.not_lt.mpr c)
      · exact absurd h (by decide)
      · exact absurd h (by decide)
      · exact absurd h (by decide)
      · exact absurd h (by decide)
    · obtain ⟨hR, hk⟩ := hr (1, i) (.inl ⟨rfl, by rw [ei], by rw [ei]; exact Int32.not_le.mp c⟩)
      have b := okx_1 hk
      obtain ⟨s1, s2, s3⟩ := setm_J J (k := 1) (.inl rfl) hk hR
      refine ⟨md_ai τ (mkf 1) i.toNatClampNeg 1, L, ?_, JX_ex s1 (fun o ho hm hx hn y hE hy => ?_), s2, fun y hy => ?_⟩
      · rw [if_neg c, gd_in (by decide) b.1 b.2, nar_b1, lt]; rfl
      · rcases hx with hx | hx
        · exact absurd hx hn
        · rw [hx] at hE; exact absurd hE edx_1
      · rcases hy with ⟨_, h, _⟩ | ⟨h, _⟩ | ⟨h, _⟩ | ⟨h, _⟩ | ⟨h, _⟩
        · rw [ei] at h; rw [h]; exact s3
        · exact absurd h (by decide)
        · exact absurd h (by decide)
        · exact absurd h (by decide)
        · exact absurd h (by decide)
  rw [if_neg c4]
  by_cases c5 : t = 5
  · subst c5
    obtain ⟨hR, hk⟩ := hr (2, i) (.inr (.inl ⟨rfl, by rw [ei]⟩))
    have b := okx_2 hk
    rw [if_pos rfl, gd_in (by decide) b.1 b.2]
    refine MKD_T (mark_p J (k := 2) (.inl rfl) hk hR (fun h0 cc hc c0 c1 => ?_) (fun h0 => ?_)) (fun y hy => ?_)
    · have c1' : cc < 3000 := by rw [cap_2] at c1; exact tI_lt.mpr c1
      have h0' : τ.2.2.1 238 i.toNatClampNeg = 0 := h0
      have hc' : (md_ai τ 238 i.toNatClampNeg 1).1 243 = cc := hc
      rw [if_pos h0', gd_in (by decide) b.1 b.2, nar_b1, lt, hc', lt, lt, gd_in (by decide) c0 c1', lt]
      rfl
    · have h0' : ¬ τ.2.2.1 238 i.toNatClampNeg = 0 := h0
      rw [if_neg h0']
      rfl
    · rcases hy with ⟨h, _⟩ | ⟨_, h⟩ | ⟨h, _⟩ | ⟨h, _⟩ | ⟨h, _⟩
      · exact absurd h (by decide)
      · rw [h, ei]
      · exact absurd h (by decide)
      · exact absurd h (by decide)
      · exact absurd h (by decide)
  rw [if_neg c5]
  by_cases c6 : t = 6
  · subst c6
    rw [if_pos rfl]
    by_cases c : i < 0
    · rw [if_pos c]
      refine MKD_0 J (fun y hy => ?_)
      rcases hy with ⟨h, _⟩ | ⟨h, _⟩ | ⟨_, _, h⟩ | ⟨h, _⟩ | ⟨h, _⟩
      · exact absurd h (by decide)
      · exact absurd h (by decide)
      · rw [ei] at h; exact absurd c (Int32.not_lt.mpr h)
      · exact absurd h (by decide)
      · exact absurd h (by decide)
    · obtain ⟨hR, hk⟩ := hr (3, i) (.inr (.inr (.inl ⟨rfl, by rw [ei], by rw [ei]; exact Int32.not_lt.mp c⟩)))
      have b := okx_3 hk
      rw [if_neg c, gd_in (by decide) b.1 b.2]
      refine MKD_T (mark_p J (k := 3) (.inr (.inl rfl)) hk hR (fun h0 cc hc c0 c1 => ?_) (fun h0 => ?_)) (fun y hy => ?_)
      · have c1' : cc < 4000 := by rw [cap_3] at c1; exact tI_lt.mpr c1
        have h0' : τ.2.2.1 239 i.toNatClampNeg = 0 := h0
        have hc' : (md_ai τ 239 i.toNatClampNeg 1).1 244 = cc := hc
        rw [if_pos h0', gd_in (by decide) b.1 b.2, nar_b1, lt, hc', lt, lt, gd_in (by decide) c0 c1', lt]
        rfl
      · have h0' : ¬ τ.2.2.1 239 i.toNatClampNeg = 0 := h0
        rw [if_neg h0']
        rfl
      · rcases hy with ⟨h, _⟩ | ⟨h, _⟩ | ⟨_, h, _⟩ | ⟨h, _⟩ | ⟨h, _⟩
        · exact absurd h (by decide)
        · exact absurd h (by decide)
        · rw [h, ei]
        · exact absurd h (by decide)
        · exact absurd h (by decide)
  rw [if_neg c6]
  by_cases c7 : t = 7
  · subst c7
    rw [if_pos rfl, mark_b]
    refine MKD_T (mark5 J (fun x1 => hr (5, i) (.inr (.inr (.inr (.inl ⟨rfl, by rw [ei], by rw [ei]; exact x1⟩)))))) (fun y hy => ?_)
    rcases hy with ⟨h, _⟩ | ⟨h, _⟩ | ⟨h, _⟩ | ⟨_, h, h'⟩ | ⟨h, _⟩
    · exact absurd h (by decide)
    · exact absurd h (by decide)
    · exact absurd h (by decide)
    · rw [ei] at h h'; exact ⟨h, h'⟩
    · exact absurd h (by decide)
  rw [if_neg c7, if_neg t8]
  refine MKD_0 J (fun y hy => ?_)
  rcases rfx_n hy with h | h | h | h | h
  · exact absurd h c4
  · exact absurd h c5
  · exact absurd h c6
  · exact absurd h c7
  · exact absurd h t8
/-- a box -/
theorem markB {N d : Nat} {σ0 τ : mS} {es xf : Int32 → List Int32} {R : OB2 → Prop} {ex : OB2 → Prop} {Gd L : Nat → List Int32} (C : CEN σ0 es xf R) (J : JX σ0 R (edx σ0 es xf) ex τ Gd L) {b : Int32} (hR : R (4, b)) : MKD σ0 R (edx σ0 es xf) ex τ Gd (fun y => y = (4, b)) (bxx3_markBox N (rc_xx3_mark N (d + 1)) τ b) := by
  have hk := C.2.1 _ hR
  have b01 := okx_4 hk
  rw [bxx3_markBox, gd_in (by decide) b01.1 b01.2]
  by_cases c : τ.2.2.1 240 b.toNatClampNeg = 0
  · obtain ⟨s1, s2, s3⟩ := setm_J J (k := 4) (.inr rfl) hk hR
    have s1' : JX σ0 R (edx σ0 es xf) (fun o => ex o ∨ o = (4, b)) (md_ai τ 240 b.toNatClampNeg 1) Gd L := s1
    have e233 : (md_ai τ 240 b.toNatClampNeg 1).2.2.1 233 b.toNatClampNeg = sI σ0 233 b := mf_I s1'.1 (k := 233) rfl
    have e234 : (md_ai τ 240 b.toNatClampNeg 1).2.2.2 234 b.toNatClampNeg = sJ σ0 234 b := mf_J s1'.1 (k := 234) rfl
    rw [if_pos c, gd_in (by decide) b01.1 b01.2, nar_b1, lt, gd_in (by decide) b01.1 b01.2, e233]
    by_cases c4 : sI σ0 233 b < 4
    · rw [if_pos c4]
      refine ⟨_, L, rfl, JX_ex s1' (fun o ho hm hx hn y hE hy => ?_), s2, fun y hy => by rw [hy]; exact s3⟩
      rcases hx with hx | hx
      · exact absurd hx hn
      · rw [hx] at hE
        have := rfx_n (edx_4.mp hE)
        exfalso
        rcases this with h | h | h | h | h <;> rw [h] at c4 <;> exact absurd c4 (by decide)
    · rw [if_neg c4, gd_in (by decide) b01.1 b01.2, gd_in (by decide) b01.1 b01.2, e234]
      show MKD σ0 R (edx σ0 es xf) ex τ Gd (fun y => y = (4, b)) (bd (bxx3_mark N (rc_xx3_mark N d) (md_ai τ 240 b.toNatClampNeg 1) (sI σ0 233 b) (sJ σ0 234 b)) (fun z2 => some z2))
      rw [bd_me (fun z => rfl)]
      obtain ⟨τ', L', q1, q2, q3, q4⟩ := mark_v (N := N) (T := rc_xx3_mark N d) s1' (t := sI σ0 233 b) (v := sJ σ0 234 b) (fun o ho => by
        have := C.1 _ o hR (edx_4.mpr ho)
        exact ⟨this, C.2.1 o this⟩) (C.2.2 b hR)
      refine ⟨τ', L', q1, JX_ex q2 (fun o ho hm hx hn y hE hy => ?_), fun y hy hm => q3 y hy (s2 y hy hm), fun y hy => by rw [hy]; exact q3 _ hk s3⟩
      rcases hx with hx | hx
      · exact absurd hx hn
      · rw [hx] at hE
        exact q4 y (edx_4.mp hE)
  · rw [if_neg c]
    exact MKD_0 J (fun y hy => by rw [hy]; exact (J.2.2.2.2.1 (4, b) hk).resolve_left c)
/-- any value -/
theorem mark_a {N d : Nat} {σ0 τ : mS} {es xf : Int32 → List Int32} {R : OB2 → Prop} {ex : OB2 → Prop} {Gd L : Nat → List Int32} (C : CEN σ0 es xf R) (J : JX σ0 R (edx σ0 es xf) ex τ Gd L) {t : Int32} {v : Int64} (hr : ∀ o, rfx t v o → R o) : MKD σ0 R (edx σ0 es xf) ex τ Gd (rfx t v) (bxx3_mark N (rc_xx3_mark N (d + 2)) τ t v) := by
  by_cases t8 : t = 8
  · subst t8
    rw [bxx3_mark, lt, if_neg (by decide), if_neg (by decide), if_neg (by decide), if_neg (by decide), if_pos rfl, mark_b]
    refine MKD_T (markB (d := d) C J (hr (4, v.toInt32) (.inr (.inr (.inr (.inr ⟨rfl, rfl⟩)))))) (fun y hy => ?_)
    rcases hy with ⟨h, _⟩ | ⟨h, _⟩ | ⟨h, _⟩ | ⟨h, _⟩ | ⟨_, h⟩
    · exact absurd h (by decide)
    · exact absurd h (by decide)
    · exact absurd h (by decide)
    · exact absurd h (by decide)
    · exact h
  · exact mark_v J (fun o ho => ⟨hr o ho, C.2.1 o (hr o ho)⟩) t8
theorem mark_e {N d : Nat} {σ : mS} {t : Int32} {v : Int64} (h : 10 = d + 1) : xx3_mark N σ t v = bxx3_mark N (rc_xx3_mark N d) σ t v := by
  rw [xx3_mark, h]; rfl
theorem markB_e {N d : Nat} {σ : mS} {b : Int32} (h : 10 = d + 1) : xx3_markBox N σ b = bxx3_markBox N (rc_xx3_mark N d) σ b := by
  rw [xx3_markBox, h]; rfl
/-- mark -/
theorem xmark {N : Nat} {σ0 τ : mS} {es xf : Int32 → List Int32} {R : OB2 → Prop} {ex : OB2 → Prop} {Gd L : Nat → List Int32} (C : CEN σ0 es xf R) (J : JX σ0 R (edx σ0 es xf) ex τ Gd L) {t : Int32} {v : Int64} (hr : ∀ o, rfx t v o → R o) : MKD σ0 R (edx σ0 es xf) ex τ Gd (rfx t v) (xx3_mark N τ t v) := by
  rw [mark_e (d := 7 + 2) rfl]
  exact mark_a C J hr
theorem xmarkB {N : Nat} {σ0 τ : mS} {es xf : Int32 → List Int32} {R : OB2 → Prop} {ex : OB2 → Prop} {Gd L : Nat → List Int32} (C : CEN σ0 es xf R) (J : JX σ0 R (edx σ0 es xf) ex τ Gd L) {b : Int32} (hR : R (4, b)) : MKD σ0 R (edx σ0 es xf) ex τ Gd (fun y => y = (4, b)) (xx3_markBox N τ b) := by
  rw [markB_e (d := 8 + 1) rfl]
  exact markB C J hR
