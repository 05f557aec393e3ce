/-! LAYER 2: the reference's collector: what is reached -/
theorem c8_and {x : Int32} (h : 0 ≤ x) : (x &&& 7).toInt = x.toInt % 8 := by
  have h0 := tI_le.mp h
  rw [show (0 : Int32).toInt = 0 from rfl] at h0
  rw [← Int32.toInt_toBitVec, Int32.toBitVec_and]
  have e : ((x.toBitVec &&& (7 : Int32).toBitVec).toNat) = x.toBitVec.toNat % 8 := by
    rw [BitVec.toNat_and]
    exact Nat.and_two_pow_sub_one_eq_mod _ 3
  have hx : x.toInt = (x.toBitVec.toNat : Int) := by
    rw [← Int32.toInt_toBitVec] at h0 ⊢
    rw [BitVec.toInt_eq_toNat_cond] at h0 ⊢
    split at h0
    · rw [if_pos (by assumption)]
    · omega
  rw [BitVec.toInt_eq_toNat_cond, e, hx]
  rw [if_pos (by omega)]
  omega
theorem c8_shr {x : Int32} (h : 0 ≤ x) : (x >>> ((3 : Int32) &&& 31)).toInt = x.toInt / 8 := by
  have h0 := tI_le.mp h
  rw [show (0 : Int32).toInt = 0 from rfl] at h0
  rw [show ((3 : Int32) &&& 31) = 3 from by decide]
  rw [← Int32.toInt_toBitVec, ← Int32.toInt_toBitVec] at *
  rw [Int32.toBitVec_shiftRight]
  rw [show (BitVec.smod (3 : Int32).toBitVec 32) = 3#32 from by decide]
  rw [BitVec.sshiftRight_eq']
  rw [show (3#32).toNat = 3 from rfl]
  rw [BitVec.toInt_sshiftRight, Int.shiftRight_eq_div_pow]
  rfl
def rfm (t : Int32) (v : Int64) (o : OB2) : Prop := (t = 3 ∧ o = (1, v.toInt32) ∧ 30000 ≤ v.toInt32) ∨ (t = 4 ∧ o = (2, v.toInt32)) ∨ (t = 5 ∧ o = (3, v.toInt32) ∧ 64 ≤ v.toInt32) ∨ (t = 7 ∧ o = (4, v.toInt32)) ∨ (t = 6 ∧ o = (5, v.toInt32) ∧ v.toInt32 < 120)
/-- what can be come to from a thing, at once -/
def edm (μ : mS) (es : Int32 → List Int32) (o y : OB2) : Prop :=
  (o.1 = 2 ∧ ((0 ≤ sI μ 20 o.2 ∧ y = (2, sI μ 20 o.2)) ∨ ∃ e, e ∈ es o.2 ∧ sI μ 34 e ≠ 0 ∧ (rfm (sI μ 32 e) (sJ μ 33 e) y ∨ rfm (sI μ 34 e) (sJ μ 35 e) y)))
  ∨ (o.1 = 3 ∧ ((sI μ 45 o.2 < 0 ∧ rfm 6 (Int32.toInt64 (-1 - sI μ 45 o.2)) y) ∨ (0 ≤ sI μ 45 o.2 ∧ ∃ k, 0 ≤ k ∧ k < sI μ 81 (sI μ 45 o.2) ∧ y = (4, sI μ 50 (sI μ 46 o.2 + k)))))
  ∨ (o.1 = 4 ∧ rfm (sI μ 53 o.2) (sJ μ 54 o.2) y)
  ∨ (o.1 = 5 ∧ sI μ 156 o.2 = 0 ∧ ((sI μ 159 o.2 = 0 ∧ rfm 5 (Int32.toInt64 (sI μ 158 o.2)) y) ∨ (∃ k, 0 ≤ k ∧ k < sI μ 164 o.2 ∧ rfm (kpt μ o.2 k) (kpv μ o.2 k) y) ∨ (∃ k, 0 ≤ k ∧ k < sI μ 166 o.2 ∧ sI μ 176 (sI μ 165 o.2 + 10 * k) = 0 ∧ rfm 5 (Int32.toInt64 (sI μ 176 (sI μ 165 o.2 + 10 * k + 1))) y)))
def CEM (μ0 : mS) (es : Int32 → List Int32) (R : OB2 → Prop) : Prop := (∀ o y, R o → edm μ0 es o y → R y) ∧ (∀ o, R o → okm o)
theorem edm_1 {μ : mS} {es : Int32 → List Int32} {x : Int32} {y : OB2} : ¬ edm μ es (1, x) y := fun h => by
  rcases h with ⟨h, _⟩ | ⟨h, _⟩ | ⟨h, _⟩ | ⟨h, _⟩
  · exact absurd (show (1 : Nat) = 2 from h) (by decide)
  · exact absurd (show (1 : Nat) = 3 from h) (by decide)
  · exact absurd (show (1 : Nat) = 4 from h) (by decide)
  · exact absurd (show (1 : Nat) = 5 from h) (by decide)
theorem rfm_n {t : Int32} {v : Int64} {o : OB2} (h : rfm t v o) : t = 3 ∨ t = 4 ∨ t = 5 ∨ t = 6 ∨ t = 7 := by
  rcases h with ⟨h, _⟩ | ⟨h, _⟩ | ⟨h, _⟩ | ⟨h, _⟩ | ⟨h, _⟩
  · exact .inl h
  · exact .inr (.inl h)
  · exact .inr (.inr (.inl h))
  · exact .inr (.inr (.inr (.inr h)))
  · exact .inr (.inr (.inr (.inl h)))
theorem okm_x {k : Nat} {x : Int32} (h : okm (k, x)) : (k = 1 → 30000 ≤ x ∧ x < 42000) ∧ (k = 2 → 0 ≤ x ∧ x < 3000) ∧ (k = 3 → 64 ≤ x ∧ x < 4064) ∧ (k = 4 → 0 ≤ x ∧ x < 12000) ∧ (k = 5 → 0 ≤ x ∧ x < 120) := by
  have key : ∀ a b : Nat, k = a → k = b → a = b := fun a b h1 h2 => h1.symm.trans h2
  rcases h with ⟨h, b⟩ | ⟨h, b⟩ | ⟨h, b⟩ | ⟨h, b⟩ | ⟨h, b⟩
  · exact ⟨fun _ => b, fun e => absurd (key _ _ h e) (by decide), fun e => absurd (key _ _ h e) (by decide), fun e => absurd (key _ _ h e) (by decide), fun e => absurd (key _ _ h e) (by decide)⟩
  · exact ⟨fun e => absurd (key _ _ h e) (by decide), fun _ => b, fun e => absurd (key _ _ h e) (by decide), fun e => absurd (key _ _ h e) (by decide), fun e => absurd (key _ _ h e) (by decide)⟩
  · exact ⟨fun e => absurd (key _ _ h e) (by decide), fun e => absurd (key _ _ h e) (by decide), fun _ => b, fun e => absurd (key _ _ h e) (by decide), fun e => absurd (key _ _ h e) (by decide)⟩
  · exact ⟨fun e => absurd (key _ _ h e) (by decide), fun e => absurd (key _ _ h e) (by decide), fun e => absurd (key _ _ h e) (by decide), fun _ => b, fun e => absurd (key _ _ h e) (by decide)⟩
  · exact ⟨fun e => absurd (key _ _ h e) (by decide), fun e => absurd (key _ _ h e) (by decide), fun e => absurd (key _ _ h e) (by decide), fun e => absurd (key _ _ h e) (by decide), fun _ => b⟩
def MKM (μ0 : mS) (R : OB2 → Prop) (E : OB2 → OB2 → Prop) (ex : OB2 → Prop) (τ : mS) (G : List OB2) (T : OB2 → Prop) (o : Option mS) : Prop := ∃ τ' L', o = some τ' ∧ JM μ0 R E ex τ' G L' ∧ (∀ y, okm y → mkm τ y → mkm τ' y) ∧ (∀ y, T y → mkm τ' y)
theorem MKM_0 {μ0 τ : mS} {R : OB2 → Prop} {E : OB2 → OB2 → Prop} {ex T : OB2 → Prop} {G L : List OB2} (J : JM μ0 R E ex τ G L) (h : ∀ y, T y → mkm τ y) : MKM μ0 R E ex τ G T (some τ) := ⟨τ, L, rfl, J, fun _ _ h => h, h⟩
theorem MKM_T {μ0 τ : mS} {R : OB2 → Prop} {E : OB2 → OB2 → Prop} {ex T T' : OB2 → Prop} {G : List OB2} {o : Option mS} (H : MKM μ0 R E ex τ G T o) (h : ∀ y, T' y → T y) : MKM μ0 R E ex τ G T' o := by
  obtain ⟨τ', L', q1, q2, q3, q4⟩ := H
  exact ⟨τ', L', q1, q2, q3, fun y hy => q4 y (h y hy)⟩
theorem MKM_bd {μ0 τ : mS} {R : OB2 → Prop} {E : OB2 → OB2 → Prop} {ex T1 T2 : OB2 → Prop} {G : List OB2} {o : Option mS} {k : mS → Option mS} (H : MKM μ0 R E ex τ G T1 o) (h1 : ∀ y, T1 y → okm y) (h : ∀ τ' L', JM μ0 R E ex τ' G L' → MKM μ0 R E ex τ' G T2 (k τ')) : MKM μ0 R E ex τ G (fun y => T1 y ∨ T2 y) (bd o k) := by
  obtain ⟨τ', L', q1, q2, q3, q4⟩ := H
  obtain ⟨τ2, L2, r1, r2, r3, r4⟩ := h τ' L' q2
  refine ⟨τ2, L2, by rw [q1, bd_so]; exact r1, r2, fun y hy hm => r3 y hy (q3 y hy hm), fun y hy => ?_⟩
  rcases hy with hy | hy
  · exact r3 y (h1 y hy) (q4 y hy)
  · exact r4 y hy
theorem mark_pm {μ0 τ : mS} {R : OB2 → Prop} {E : OB2 → OB2 → Prop} {ex : OB2 → Prop} {G L : List OB2} (J : JM μ0 R E ex τ G L) {z : OB2} (hz : z.1 ≠ 1) (ho : okm z) (hR : R z) {om : Option mS} (h0 : sI τ (mkfm z.1) (mki z) = 0 → ∀ c, sF τ 238 = c → 0 ≤ c → c < 32000 → om = some (pshm τ z c)) (h1 : sI τ (mkfm z.1) (mki z) = 1 → om = some τ) : MKM μ0 R E ex τ G (fun y => y = z) om := by
  rcases J.2.2.2.2.2.1 z ho with c | c
  · have nm : ¬ mkm τ z := fun h => absurd (c.symm.trans (h : sI τ (mkfm z.1) (mki z) = 1)) (by decide)
    obtain ⟨cc, p1, p2, p3, p4, p5, p6⟩ := push_M J hz ho hR nm
    exact ⟨_, _, h0 c cc p1 p2 p3, p4, p5, fun y hy => by rw [hy]; exact p6⟩
  · rw [h1 c]
    exact MKM_0 J (fun y hy => by rw [hy]; exact c)
/-- behind a mark -/
theorem r186_1 {N : Nat} {τ τ1 : mS} {t i c : Int32} {z : OB2} (e1 : md_ai τ (mkfm z.1) (mki z).toNatClampNeg 1 = τ1) (hc : sF τ 238 = c) (c0 : 0 ≤ c) (c1 : c < 32000) (hz : cod z = 8 * i + t) : mm_reach_186 N t i 1 τ1 = some (pshm τ z c) := by
  have e238 : τ1.1 238 = c := by rw [← e1]; exact hc
  rw [mm_reach_186, if_neg n10, e238, gd_in (by decide) c0 c1, lt, ← hz]
  rw [show (md_ai τ1 237 c.toNatClampNeg (cod z)).1 238 = c from e238, lt, mm_reach_217, pshm, e1]
theorem r186_0 {N : Nat} {τ τ1 : mS} {t i : Int32} (e1 : τ1 = τ) : mm_reach_186 N t i 0 τ1 = some τ := by
  rw [mm_reach_186, if_pos rfl, mm_reach_217, e1]
/-- reach -/
theorem reach_a {N : Nat} {μ0 τ : mS} {es : Int32 → List Int32} {R : OB2 → Prop} {ex : OB2 → Prop} {G L : List OB2} (C : CEM μ0 es R) (J : JM μ0 R (edm μ0 es) ex τ G L) {t : Int32} {v : Int64} (hr : ∀ o, rfm t v o → R o) : MKM μ0 R (edm μ0 es) ex τ G (rfm t v) (mm_reach N τ t v) := by
  rw [mm_reach, lt]
  generalize ei : v.toInt32 = i
  by_cases c3 : t = 3
  · subst c3
    rw [if_pos rfl]
    by_cases c : i < 30000
    · rw [if_pos c, mm_reach_35, if_neg (by decide), if_neg (by decide), mm_reach_114, if_neg (by decide), if_neg (by decide), r186_0 rfl]
      refine MKM_0 J (fun y hy => ?_)
      rcases hy with ⟨_, _, h⟩ | ⟨h, _⟩ | ⟨h, _⟩ | ⟨h, _⟩ | ⟨h, _⟩
      · rw [ei] at h; exact absurd (Int32.lt_of_lt_of_le c h) Int32.lt_irrefl
      · exact absurd h (by decide)
      · exact absurd h (by decide)
      · exact absurd h (by decide)
      · exact absurd h (by decide)
    · have hR := hr (1, i) (.inl ⟨rfl, by rw [ei], by rw [ei]; exact Int32.not_lt.mp c⟩)
      have hk := C.2 _ hR
      have b := (okm_x hk).1 rfl
      have mi : mki (1, i) = i - 30000 := rfl
      have b0 : 0 ≤ i - 30000 ∧ i - 30000 < 12000 := by
        have b1 := b.1
        have b2 := b.2
        clear hr J
        exact ⟨by lia, by lia⟩
      obtain ⟨s1, s2, s3⟩ := setm_M J (z := (1, i)) rfl hk hR (fun y => edm_1)
      rw [if_neg c, gd_in (by decide) b0.1 b0.2, nar_b1, lt, r186_0 rfl]
      refine ⟨_, L, rfl, s1, s2, fun y hy => ?_⟩
      rcases hy with ⟨_, h, _⟩ | ⟨h, _⟩ | ⟨h, _⟩ | ⟨h, _⟩ | ⟨h, _⟩
      · rw [ei] at h; rw [h]; exact s3
      · exact absurd h (by decide)
      · exact absurd h (by decide)
      · exact absurd h (by decide)
      · exact absurd h (by decide)
  rw [if_neg c3, mm_reach_35]
  by_cases c4 : t = 4
  · subst c4
    have hR := hr (2, i) (.inr (.inl ⟨rfl, by rw [ei]⟩))
    have hk := C.2 _ hR
    have b := (okm_x hk).2.1 rfl
    rw [if_pos rfl, gd_in (by decide) b.1 b.2]
    refine MKM_T (mark_pm J (z := (2, i)) (show (2 : Nat) ≠ 1 from by decide) hk hR (fun h0 cc hc k0 k1 => ?_) (fun h0 => ?_)) (fun y hy => ?_)
    · have h0' : τ.2.2.1 233 i.toNatClampNeg = 0 := h0
      rw [if_pos h0', mm_reach_55, gd_in (by decide) b.1 b.2, nar_b1, lt]
      exact r186_1 (z := (2, i)) rfl hc k0 k1 rfl
    · have h0' : τ.2.2.1 233 i.toNatClampNeg = 1 := h0
      rw [if_neg (by rw [h0']; decide), mm_reach_55, gd_in (by decide) b.1 b.2, nar_b1, lt]
      exact r186_0 (ai_same h0')
    · rcases hy with ⟨h, _⟩ | ⟨_, h⟩ | ⟨h, _⟩ | ⟨h, _⟩ | ⟨h, _⟩
      · exact absurd h (by decide)
      · rw [h, ei]
      · exact absurd h (by decide)
      · exact absurd h (by decide)
      · exact absurd h (by decide)
  rw [if_neg c4]
  by_cases c5 : t = 5
  · subst c5
    rw [if_pos rfl]
    by_cases c : i < 64
    · rw [if_pos c, mm_reach_114, if_neg (by decide), if_neg (by decide), r186_0 rfl]
      refine MKM_0 J (fun y hy => ?_)
      rcases hy with ⟨h, _⟩ | ⟨h, _⟩ | ⟨_, _, h⟩ | ⟨h, _⟩ | ⟨h, _⟩
      · exact absurd h (by decide)
      · exact absurd h (by decide)
      · rw [ei] at h; exact absurd (Int32.lt_of_lt_of_le c h) Int32.lt_irrefl
      · exact absurd h (by decide)
      · exact absurd h (by decide)
    · have hR := hr (3, i) (.inr (.inr (.inl ⟨rfl, by rw [ei], by rw [ei]; exact Int32.not_lt.mp c⟩)))
      have hk := C.2 _ hR
      have b := (okm_x hk).2.2.1 rfl
      have b0 : 0 ≤ i - 64 ∧ i - 64 < 4000 := by
        have b1 := b.1
        have b2 := b.2
        clear hr J
        exact ⟨by lia, by lia⟩
      rw [if_neg c, gd_in (by decide) b0.1 b0.2]
      refine MKM_T (mark_pm J (z := (3, i)) (show (3 : Nat) ≠ 1 from by decide) hk hR (fun h0 cc hc k0 k1 => ?_) (fun h0 => ?_)) (fun y hy => ?_)
      · have h0' : τ.2.2.1 234 (i - 64).toNatClampNeg = 0 := h0
        rw [if_pos h0', mm_reach_98, gd_in (by decide) b0.1 b0.2, nar_b1, lt]
        exact r186_1 (z := (3, i)) rfl hc k0 k1 rfl
      · have h0' : τ.2.2.1 234 (i - 64).toNatClampNeg = 1 := h0
        rw [if_neg (by rw [h0']; decide), mm_reach_98, gd_in (by decide) b0.1 b0.2, nar_b1, lt]
        exact r186_0 (ai_same h0')
      · rcases hy with ⟨h, _⟩ | ⟨h, _⟩ | ⟨_, h, _⟩ | ⟨h, _⟩ | ⟨h, _⟩
        · exact absurd h (by decide)
        · exact absurd h (by decide)
        · rw [h, ei]
        · exact absurd h (by decide)
        · exact absurd h (by decide)
  rw [if_neg c5, mm_reach_114]
  by_cases c7 : t = 7
  · subst c7
    have hR := hr (4, i) (.inr (.inr (.inr (.inl ⟨rfl, by rw [ei]⟩))))
    have hk := C.2 _ hR
    have b := (okm_x hk).2.2.2.1 rfl
    rw [if_pos rfl, gd_in (by decide) b.1 b.2]
    refine MKM_T (mark_pm J (z := (4, i)) (show (4 : Nat) ≠ 1 from by decide) hk hR (fun h0 cc hc k0 k1 => ?_) (fun h0 => ?_)) (fun y hy => ?_)
    · have h0' : τ.2.2.1 235 i.toNatClampNeg = 0 := h0
      rw [if_pos h0', mm_reach_135, gd_in (by decide) b.1 b.2, nar_b1, lt]
      exact r186_1 (z := (4, i)) rfl hc k0 k1 rfl
    · have h0' : τ.2.2.1 235 i.toNatClampNeg = 1 := h0
      rw [if_neg (by rw [h0']; decide), mm_reach_135, gd_in (by decide) b.1 b.2, nar_b1, lt]
      exact r186_0 (ai_same h0')
    · rcases hy with ⟨h, _⟩ | ⟨h, _⟩ | ⟨h, _⟩ | ⟨_, h⟩ | ⟨h, _⟩
      · exact absurd h (by decide)
      · exact absurd h (by decide)
      · exact absurd h (by decide)
      · rw [h, ei]
      · exact absurd h (by decide)
  rw [if_neg c7]
  by_cases c6 : t = 6
  · subst c6
    rw [if_pos rfl]
    by_cases c : 120 ≤ i
    · rw [if_pos c, r186_0 rfl]
      refine MKM_0 J (fun y hy => ?_)
      rcases hy with ⟨h, _⟩ | ⟨h, _⟩ | ⟨h, _⟩ | ⟨h, _⟩ | ⟨_, _, h⟩
      · exact absurd h (by decide)
      · exact absurd h (by decide)
      · exact absurd h (by decide)
      · exact absurd h (by decide)
      · rw [ei] at h; exact absurd (Int32.lt_of_lt_of_le h c) Int32.lt_irrefl
    · have hR := hr (5, i) (.inr (.inr (.inr (.inr ⟨rfl, by rw [ei], by rw [ei]; exact Int32.not_le.mp c⟩))))
      have hk := C.2 _ hR
      have b := (okm_x hk).2.2.2.2 rfl
      have b2 : i < 121 := Int32.lt_trans b.2 (by decide)
      rw [if_neg c, gd_in (by decide) b.1 b2]
      refine MKM_T (mark_pm J (z := (5, i)) (show (5 : Nat) ≠ 1 from by decide) hk hR (fun h0 cc hc k0 k1 => ?_) (fun h0 => ?_)) (fun y hy => ?_)
      · have h0' : τ.2.2.1 236 i.toNatClampNeg = 0 := h0
        rw [if_pos h0', mm_reach_176, gd_in (by decide) b.1 b2, nar_b1, lt]
        exact r186_1 (z := (5, i)) rfl hc k0 k1 rfl
      · have h0' : τ.2.2.1 236 i.toNatClampNeg = 1 := h0
        rw [if_neg (by rw [h0']; decide), mm_reach_176, gd_in (by decide) b.1 b2, nar_b1, lt]
        exact r186_0 (ai_same h0')
      · rcases hy with ⟨h, _⟩ | ⟨h, _⟩ | ⟨h, _⟩ | ⟨h, _⟩ | ⟨_, h, _⟩
        · exact absurd h (by decide)
        · exact absurd h (by decide)
        · exact absurd h (by decide)
        · exact absurd h (by decide)
        · rw [h, ei]
  rw [if_neg c6, r186_0 rfl]
  refine MKM_0 J (fun y hy => ?_)
  rcases rfm_n hy with h | h | h | h | h
  · exact absurd h c3
  · exact absurd h c4
  · exact absurd h c5
  · exact absurd h c6
  · exact absurd h c7
