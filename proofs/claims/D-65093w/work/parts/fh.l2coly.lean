/-! LAYER 2: the system's collector: all sweeps, pieces -/
theorem sweepC_x {N : Nat} (hN : BIG ≤ N) {σ : mS} {w : WD} {xf : Int32 → List Int32} {fcs : List Int32} (X : XF w xf σ) (sg : seg (sI σ 336) (sF σ 337) fcs (-1)) (nd : (fcs ++ (wC w).map Prod.fst).Nodup) (hr : ∀ c, c ∈ fcs ++ (wC w).map Prod.fst → 1 ≤ c ∧ c ≤ 120) (hl : (fcs ++ (wC w).map Prod.fst).length = 120) (hx : ∀ c, c ∈ (wC w).map Prod.fst → (xf c).length ≤ 202) (h358 : 0 ≤ sF σ 358 ∧ sF σ 358 ≤ 202) (h338 : (sF σ 338).toInt = (wC w).length) : ∃ τ D, xx5_sweep N σ = some τ ∧ TCI σ τ w xf fcs 121 D := by
  have bg : ∀ v : Int32, 1 ≤ v → (121 - v.toInt).toNat < N := fun v h => by
    rw [tI_le, show (1 : Int32).toInt = 1 from rfl] at h
    simp only [BIG] at hN; omega
  obtain ⟨τ1, e1, f1, z1⟩ := cz2 (N := N) (σ := σ) N 1 σ (by decide) (by decide) (bg 1 (by decide)) mf_rfl (fun x x0 x1 => absurd (Int32.lt_of_le_of_lt x0 x1) Int32.lt_irrefl)
  have sg1 : seg (sI σ 336) (sF τ1 337) fcs (-1) := by rw [mf_F f1 rfl]; exact sg
  have fl : fcs.length < N := by
    rw [List.length_append] at hl
    simp only [BIG] at hN; omega
  obtain ⟨τ2, e2, f2, z2⟩ := cz26 (N := N) (σ := σ) (fb := fcs) (fun x hx => hr x (List.mem_append_left _ hx)) fcs [] N (sF τ1 337) τ1 rfl fl sg1 f1 (fun x x0 x1 => by rw [z1 x x0 x1, if_neg (by simp)])
  have xe : fD xf [] = xf := by
    funext c
    simp [fD]
  have T : TCI σ τ2 w xf fcs 1 [] := by
    refine ⟨mf_mono f2 (fun k hk => ?_), ?_, ?_, by simp, fun x => ⟨fun h => absurd h (by simp), fun ⟨q1, q2, _⟩ => absurd (Int32.lt_of_le_of_lt q1 q2) Int32.lt_irrefl⟩, ?_, z2, fun x x0 x1 => absurd (Int32.lt_of_le_of_lt x0 x1) Int32.lt_irrefl, fun x _ _ => mf_I f2 rfl, fun x _ => ?_, fun x _ => ?_, mf_F f2 rfl, ?_⟩
    · simp only [tcF, Bool.or_eq_false_iff, List.contains_cons, List.contains_nil, Bool.or_eq_false_iff, beq_eq_false_iff_ne] at hk
      simp only [beq_eq_false_iff_ne]
      omega
    · rw [xe]
      exact XF_ai X f2 (fun k hk => by simp only [beq_eq_false_iff_ne]; omega)
    · have e : sI τ2 336 = sI σ 336 := funext (fun i => mf_I f2 rfl)
      rw [e, mf_F f2 rfl]
      exact sg
    · rw [mf_F f2 rfl, h338]; simp
    · rw [if_neg (by simp)]; exact mf_I f2 rfl
    · rw [if_neg (by simp)]; exact mf_I f2 rfl
    · rw [mf_F f2 rfl]; simp
  obtain ⟨τ3, D, e3, T3⟩ := cz50 hN nd hr hl hx h358 N 1 τ2 [] T (by decide) (by decide) (bg 1 (by decide))
  refine ⟨τ3, D, ?_, T3⟩
  rw [xx5_sweep, e1, e2]
  exact e3
/-- tables do not see the rest -/
theorem MX_fr0 {P : Nat → Bool} {σ τ : mS} {ts ff fh : List Int32} {es ps hs : Int32 → List Int32} (M : MX σ ts es ps hs ff fh) (fr : m_fr P σ τ) (hp : ∀ k, k ∈ [128, 129, 130, 131, 132, 134] ∨ (195 ≤ k ∧ k ≤ 221) → P k = false) : MX τ ts es ps hs ff fh := by
  have p : ∀ k, 195 ≤ k → k ≤ 221 → P k = false := fun k a b => hp k (.inr ⟨a, b⟩)
  have p1 : ∀ k, k ∈ [128, 129, 130, 131, 132, 134] → P k = false := fun k a => hp k (.inl a)
  exact ⟨mf_FX2 fr ⟨p1 _ (by decide), p1 _ (by decide), p1 _ (by decide), p1 _ (by decide), p1 _ (by decide), p1 _ (by decide)⟩ ⟨p _ (by decide) (by decide), p _ (by decide) (by decide), p _ (by decide) (by decide), p _ (by decide) (by decide), p _ (by decide) (by decide)⟩ M.1, mf_HS fr ⟨p _ (by decide) (by decide), p _ (by decide) (by decide), p _ (by decide) (by decide), p _ (by decide) (by decide), p _ (by decide) (by decide), p _ (by decide) (by decide), p _ (by decide) (by decide), p _ (by decide) (by decide), p _ (by decide) (by decide)⟩ M.2.1, fun t ht => mf_HB fr (p _ (by decide) (by decide)) (p _ (by decide) (by decide)) (p _ (by decide) (by decide)) (p _ (by decide) (by decide)) (mf_I fr (p _ (by decide) (by decide))) (M.2.2.1 t ht), mf_EX fr ⟨p _ (by decide) (by decide), p _ (by decide) (by decide), p _ (by decide) (by decide), p _ (by decide) (by decide), p _ (by decide) (by decide), p _ (by decide) (by decide), p _ (by decide) (by decide), p _ (by decide) (by decide)⟩ M.2.2.2⟩
theorem FT_fr0 {P : Nat → Bool} {σ τ : mS} {ts ft : List Int32} (T : FT σ ts ft) (fr : m_fr P σ τ) (h1 : P 209 = false) (h2 : P 210 = false) (h3 : P 211 = false) : FT τ ts ft := by
  have i209 : sI τ 209 = sI σ 209 := by funext m; exact mf_I fr h1
  simp only [FT, i209, mf_F fr h2, mf_F fr h3]; exact T
theorem CX_fr0 {P : Nat → Bool} {σ τ : mS} {o f : List Int32} (C : CX σ o f) (fr : m_fr P σ τ) (hp : ∀ k, 223 ≤ k → k ≤ 232 → k ≠ 225 → k ≠ 231 → P k = false) : CX τ o f := by
  have i226 : sI τ 226 = sI σ 226 := by funext m; exact mf_I fr (hp _ (by decide) (by decide) (by decide) (by decide))
  have i223 : sI τ 223 = sI σ 223 := by funext m; exact mf_I fr (hp _ (by decide) (by decide) (by decide) (by decide))
  have i224 : sI τ 224 = sI σ 224 := by funext m; exact mf_I fr (hp _ (by decide) (by decide) (by decide) (by decide))
  simp only [CX, i226, i223, i224, mf_F fr (hp 227 (by decide) (by decide) (by decide) (by decide)), mf_F fr (hp 228 (by decide) (by decide) (by decide) (by decide)), mf_F fr (hp 229 (by decide) (by decide) (by decide) (by decide)), mf_F fr (hp 230 (by decide) (by decide) (by decide) (by decide)), mf_F fr (hp 232 (by decide) (by decide) (by decide) (by decide))]
  exact C
theorem BX_fr0 {P : Nat → Bool} {σ τ : mS} {o f : List Int32} (C : BX σ o f) (fr : m_fr P σ τ) (h1 : P 235 = false) (h2 : P 236 = false) (h3 : P 237 = false) : BX τ o f := by
  have i : sI τ 235 = sI σ 235 := by funext m; exact mf_I fr h1
  simp only [BX, i, mf_F fr h2, mf_F fr h3]; exact C
/-- a string that stays -/
def xst (σ τ : mS) (h : Int32) : Prop := gs τ h ∧ sI τ 130 h = sI σ 130 h ∧ x_sz τ h = x_sz σ h ∧ ∀ k, 0 ≤ k → k < x_sz σ h → x_by τ h k = x_by σ h k
theorem xst_eq {σ τ : mS} {a b : Int32} (A : xst σ τ a) (B : xst σ τ b) : x_eq τ a b ↔ x_eq σ a b := by
  obtain ⟨_, _, a3, a4⟩ := A
  obtain ⟨_, _, b3, b4⟩ := B
  simp only [x_eq, a3, b3]
  refine ⟨fun ⟨h1, h2⟩ => ⟨h1, fun k k0 k1 => ?_⟩, fun ⟨h1, h2⟩ => ⟨h1, fun k k0 k1 => ?_⟩⟩
  · have q := h2 k k0 k1
    rw [a4 k k0 k1, b4 k k0 (by rw [h1]; exact k1)] at q
    exact q
  · rw [a4 k k0 k1, b4 k k0 (by rw [h1]; exact k1)]
    exact h2 k k0 k1
theorem FX_st {P : Nat → Bool} {σ τ : mS} {ts : List Int32} {es ps : Int32 → List Int32} (fr : m_fr P σ τ) (h3 : P 212 = false ∧ P 213 = false ∧ P 216 = false ∧ P 218 = false ∧ P 221 = false) (hk : ∀ t, t ∈ ts → ∀ e, e ∈ es t → sI σ 212 e = 4 → xst σ τ (sJ σ 213 e).toInt32) (H : FX σ ts es ps) : FX τ ts es ps := by
  obtain ⟨p1, p2, p3, p4, p5⟩ := h3
  obtain ⟨a, b, c⟩ := H
  have e212 : ∀ i, sI τ 212 i = sI σ 212 i := fun i => mf_I fr p1
  have e213 : ∀ i, sJ τ 213 i = sJ σ 213 i := fun i => mf_J fr p2
  have e216 : ∀ i, sI τ 216 i = sI σ 216 i := fun i => mf_I fr p3
  have pf : ∀ t e, t ∈ ts → e ∈ es t → ∀ s, pilf τ s (sI σ 212 e) (sJ σ 213 e) = pilf σ s (sI σ 212 e) (sJ σ 213 e) := fun t e ht he s => by
    by_cases c4 : sI σ 212 e = 4
    · rw [pilf, pilf, if_pos c4, if_pos c4, (hk t ht e he c4).2.1]
    · rw [pilf, pilf, if_neg c4, if_neg c4]
  refine ⟨fun t ht e he => ?_, fun p p0 p1 => ?_, fun t ht e e' he he' q => ?_⟩
  · obtain ⟨x1, x2, x3, x4, x5, x6, x7⟩ := a t ht e he
    rw [e216, e212, e213]
    exact ⟨x1, x2, x3, x4, x5, x6, fun q => (hk t ht e he q).1⟩
  · obtain ⟨y1, y2, y3⟩ := b p p0 p1
    refine ⟨by rw [mf_I fr p5]; exact seg_congr y1 (fun x _ => mf_I fr p4), y2, fun e => ?_⟩
    rw [y3 e, e216, e212, e213]
    exact ⟨fun ⟨⟨t, ht, he⟩, q⟩ => ⟨⟨t, ht, he⟩, by rw [pf t e ht he]; exact q⟩, fun ⟨⟨t, ht, he⟩, q⟩ => ⟨⟨t, ht, he⟩, by rw [pf t e ht he] at q; exact q⟩⟩
  · rw [e212 e, e213 e, e212 e', e213 e'] at q
    refine c t ht e e' he he' ?_
    obtain ⟨q1, q2⟩ := q
    refine ⟨q1, ?_⟩
    by_cases c4 : sI σ 212 e = 4
    · rw [if_pos c4] at q2 ⊢
      exact (xst_eq (hk t ht e he c4) (hk t ht e' he' (by rw [← q1]; exact c4))).mp q2
    · rw [if_neg c4] at q2 ⊢
      exact q2
theorem MX_st {P : Nat → Bool} {σ τ : mS} {ts ff fh : List Int32} {es ps hs : Int32 → List Int32} (M : MX σ ts es ps hs ff fh) (fr : m_fr P σ τ) (hp : ∀ k, 195 ≤ k → k ≤ 221 → P k = false) (hk : ∀ t, t ∈ ts → ∀ e, e ∈ es t → sI σ 212 e = 4 → xst σ τ (sJ σ 213 e).toInt32) : MX τ ts es ps hs ff fh :=
  ⟨FX_st fr ⟨hp _ (by decide) (by decide), hp _ (by decide) (by decide), hp _ (by decide) (by decide), hp _ (by decide) (by decide), hp _ (by decide) (by decide)⟩ hk M.1, mf_HS fr ⟨hp _ (by decide) (by decide), hp _ (by decide) (by decide), hp _ (by decide) (by decide), hp _ (by decide) (by decide), hp _ (by decide) (by decide), hp _ (by decide) (by decide), hp _ (by decide) (by decide), hp _ (by decide) (by decide), hp _ (by decide) (by decide)⟩ M.2.1, fun t ht => mf_HB fr (hp _ (by decide) (by decide)) (hp _ (by decide) (by decide)) (hp _ (by decide) (by decide)) (hp _ (by decide) (by decide)) (mf_I fr (hp _ (by decide) (by decide))) (M.2.2.1 t ht), mf_EX fr ⟨hp _ (by decide) (by decide), hp _ (by decide) (by decide), hp _ (by decide) (by decide), hp _ (by decide) (by decide), hp _ (by decide) (by decide), hp _ (by decide) (by decide), hp _ (by decide) (by decide), hp _ (by decide) (by decide)⟩ M.2.2.2⟩
/-- the same of the reference -/
def mst (σ τ : mS) (h : Int32) : Prop := mgs τ h ∧ sI τ 4 h = sI σ 4 h ∧ m_sz τ h = m_sz σ h ∧ ∀ k, 0 ≤ k → k < m_sz σ h → m_by τ h k = m_by σ h k
theorem mst_eq {σ τ : mS} {a b : Int32} (A : mst σ τ a) (B : mst σ τ b) : m_eq τ a b ↔ m_eq σ a b := by
  obtain ⟨_, _, a3, a4⟩ := A
  obtain ⟨_, _, b3, b4⟩ := B
  simp only [m_eq, a3, b3]
  refine ⟨fun ⟨h1, h2⟩ => ⟨h1, fun k k0 k1 => ?_⟩, fun ⟨h1, h2⟩ => ⟨h1, fun k k0 k1 => ?_⟩⟩
  · have q := h2 k k0 k1
    rw [a4 k k0 k1, b4 k k0 (by rw [h1]; exact k1)] at q
    exact q
  · rw [a4 k k0 k1, b4 k k0 (by rw [h1]; exact k1)]
    exact h2 k k0 k1
theorem MM_st {P : Nat → Bool} {σ τ : mS} {ts : List Int32} {es ps : Int32 → List Int32} (M : MM σ ts es ps) (fr : m_fr P σ τ) (hp : ∀ k, 19 ≤ k → k ≤ 41 → P k = false) (hk : ∀ t, t ∈ ts → ∀ e, e ∈ es t → sI σ 32 e = 3 → mst σ τ (sJ σ 33 e).toInt32) : MM τ ts es ps := by
  obtain ⟨⟨a, b, c⟩, h1, E⟩ := M
  have e32 : ∀ i, sI τ 32 i = sI σ 32 i := fun i => mf_I fr (hp _ (by decide) (by decide))
  have e33 : ∀ i, sJ τ 33 i = sJ σ 33 i := fun i => mf_J fr (hp _ (by decide) (by decide))
  have e31 : ∀ i, sI τ 31 i = sI σ 31 i := fun i => mf_I fr (hp _ (by decide) (by decide))
  have pf : ∀ t e, t ∈ ts → e ∈ es t → ∀ s, chf τ s (sI σ 32 e) (sJ σ 33 e) = chf σ s (sI σ 32 e) (sJ σ 33 e) := fun t e ht he s => by
    by_cases c4 : sI σ 32 e = 3
    · rw [chf, chf, if_pos c4, if_pos c4, (hk t ht e he c4).2.1]
    · rw [chf, chf, if_neg c4, if_neg c4]
  refine ⟨⟨fun t ht e he => ?_, fun p p0 p1 => ?_, fun t ht e e' he he' q => ?_⟩, fun t ht => ?_, mf_EM fr ⟨hp _ (by decide) (by decide), hp _ (by decide) (by decide), hp _ (by decide) (by decide), hp _ (by decide) (by decide), hp _ (by decide) (by decide), hp _ (by decide) (by decide), hp _ (by decide) (by decide), hp _ (by decide) (by decide), hp _ (by decide) (by decide)⟩ E⟩
  · obtain ⟨x1, x2, x3, x4, x5, x6⟩ := a t ht e he
    rw [e31, e32, e33]
    exact ⟨x1, x2, x3, x4, x5, fun q => (hk t ht e he q).1⟩
  · obtain ⟨y1, y2, y3⟩ := b p p0 p1
    refine ⟨by rw [mf_I fr (k := 38) (hp _ (by decide) (by decide))]; exact seg_congr y1 (fun x _ => by rw [mf_I fr (k := 37) (hp _ (by decide) (by decide))]), y2, fun e => ?_⟩
    rw [y3 e, e31, e32, e33]
    exact ⟨fun ⟨⟨t, ht, he⟩, q⟩ => ⟨⟨t, ht, he⟩, by rw [pf t e ht he]; exact q⟩, fun ⟨⟨t, ht, he⟩, q⟩ => ⟨⟨t, ht, he⟩, by rw [pf t e ht he] at q; exact q⟩⟩
  · rw [e32 e, e33 e, e32 e', e33 e'] at q
    refine c t ht e e' he he' ?_
    obtain ⟨q1, q2⟩ := q
    refine ⟨q1, ?_⟩
    by_cases c4 : sI σ 32 e = 3
    · rw [if_pos c4] at q2 ⊢
      exact (mst_eq (hk t ht e he c4) (hk t ht e' he' (by rw [← q1]; exact c4))).mp q2
    · rw [if_neg c4] at q2 ⊢
      exact q2
  · have h := h1 t ht
    have imh : mh τ t = mh σ t := by funext i; exact mf_I fr (hp _ (by decide) (by decide))
    simp only [HM] at h ⊢
    rw [mf_I fr (hp _ (by decide) (by decide)), mf_I fr (hp _ (by decide) (by decide)), imh]
    exact hm_mv (fun k => mf_mlv fr (hp _ (by decide) (by decide)) (hp _ (by decide) (by decide)) (hp _ (by decide) (by decide))) h
theorem FTm_fr0 {P : Nat → Bool} {σ τ : mS} {ts : List Int32} (T : FTm σ ts) (fr : m_fr P σ τ) (h1 : P 28 = false) (h2 : P 29 = false) (h3 : P 30 = false) : FTm τ ts := by
  have i28 : sI τ 28 = sI σ 28 := by funext m; exact mf_I fr h1
  simp only [FTm, i28, mf_F fr h2, mf_F fr h3]; exact T
