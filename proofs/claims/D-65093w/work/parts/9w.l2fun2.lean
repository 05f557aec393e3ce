/-! LAYER 2: the two sides: functions and boxes -/
theorem RT_fr {P Q : Nat → Bool} {w w' : WD} {σ μ τ τm : mS} {es es' : Int32 → List Int32} (R : RT w σ μ es es') (wl : wle w w') (wt : wT w' = wT w) (fr : m_fr P σ τ) (frm : m_fr Q μ τm) (hp : ∀ k, (128 ≤ k ∧ k ≤ 142) ∨ (195 ≤ k ∧ k ≤ 221) → P k = false) (hq : ∀ k, (2 ≤ k ∧ k ≤ 10) ∨ (19 ≤ k ∧ k ≤ 41) → Q k = false) : RT w' τ τm es es' := by
  obtain ⟨⟨ps, hs', ff, fh, M⟩, ⟨ft, T⟩, ⟨ps', MM'⟩, T', E⟩ := R
  have tx : tX w' = tX w := by simp only [tX, wt]
  have tm : tM w' = tM w := by simp only [tM, wt]
  have p : ∀ k, 195 ≤ k → k ≤ 221 → P k = false := fun k a b => hp k (.inr ⟨a, b⟩)
  have q : ∀ k, 19 ≤ k → k ≤ 41 → Q k = false := fun k a b => hq k (.inr ⟨a, b⟩)
  have ps6 : P 128 = false ∧ P 129 = false ∧ P 130 = false ∧ P 131 = false ∧ P 132 = false ∧ P 134 = false := ⟨hp _ (.inl (by decide)), hp _ (.inl (by decide)), hp _ (.inl (by decide)), hp _ (.inl (by decide)), hp _ (.inl (by decide)), hp _ (.inl (by decide))⟩
  have qs5 : Q 2 = false ∧ Q 3 = false ∧ Q 4 = false ∧ Q 7 = false ∧ Q 10 = false := ⟨hq _ (.inl (by decide)), hq _ (.inl (by decide)), hq _ (.inl (by decide)), hq _ (.inl (by decide)), hq _ (.inl (by decide))⟩
  simp only [RT]
  rw [tx, tm, wt]
  refine ⟨⟨ps, hs', ff, fh, mf_FX2 fr ps6 ⟨p _ (by decide) (by decide), p _ (by decide) (by decide), p _ (by decide) (by decide), p _ (by decide) (by decide), p _ (by decide) (by decide)⟩ M.1, mf_HS fr ⟨p _ (by decide) (by decide), p _ (by decide) (by decide), p _ (by decide) (by decide), p _ (by decide) (by decide), p _ (by decide) (by decide), p _ (by decide) (by decide), p _ (by decide) (by decide), p _ (by decide) (by decide), p _ (by decide) (by decide)⟩ M.2.1, fun t ht => mf_HB fr (p _ (by decide) (by decide)) (p _ (by decide) (by decide)) (p _ (by decide) (by decide)) (p _ (by decide) (by decide)) (mf_I fr (p _ (by decide) (by decide))) (M.2.2.1 t ht), mf_EX fr ⟨p _ (by decide) (by decide), p _ (by decide) (by decide), p _ (by decide) (by decide), p _ (by decide) (by decide), p _ (by decide) (by decide), p _ (by decide) (by decide), p _ (by decide) (by decide), p _ (by decide) (by decide)⟩ M.2.2.2⟩, ⟨ft, ?_⟩, ⟨ps', mf_FM frm qs5 ⟨q _ (by decide) (by decide), q _ (by decide) (by decide), q _ (by decide) (by decide), q _ (by decide) (by decide), q _ (by decide) (by decide)⟩ MM'.1, fun t ht => ?_, mf_EM frm ⟨q _ (by decide) (by decide), q _ (by decide) (by decide), q _ (by decide) (by decide), q _ (by decide) (by decide), q _ (by decide) (by decide), q _ (by decide) (by decide), q _ (by decide) (by decide), q _ (by decide) (by decide), q _ (by decide) (by decide)⟩ MM'.2.2⟩, ?_, fun a b hab => ⟨?_, ?_, ?_⟩⟩
  · have i209 : sI τ 209 = sI σ 209 := by funext m; exact mf_I fr (p _ (by decide) (by decide))
    simp only [FT, i209, mf_F fr (p 210 (by decide) (by decide)), mf_F fr (p 211 (by decide) (by decide))]; exact T
  · have h := MM'.2.1 t ht
    have imh : mh τm t = mh μ t := by funext i; exact mf_I frm (q _ (by decide) (by decide))
    simp only [HM] at h ⊢
    rw [mf_I frm (q _ (by decide) (by decide)), mf_I frm (q _ (by decide) (by decide)), imh]
    exact hm_mv (fun k => mf_mlv frm (q _ (by decide) (by decide)) (q _ (by decide) (by decide)) (q _ (by decide) (by decide))) h
  · have i28 : sI τm 28 = sI μ 28 := by funext m; exact mf_I frm (q _ (by decide) (by decide))
    simp only [FTm, i28, mf_F frm (q 29 (by decide) (by decide)), mf_F frm (q 30 (by decide) (by decide))]; exact T'
  · refine F2_mono (E a b hab).1 (fun x y _ _ r => ?_)
    obtain ⟨r1, r2, r3, r4⟩ := r
    have i212 : sI τ 212 x = sI σ 212 x := mf_I fr (p _ (by decide) (by decide))
    have i214 : sI τ 214 x = sI σ 214 x := mf_I fr (p _ (by decide) (by decide))
    have j213 : sJ τ 213 x = sJ σ 213 x := mf_J fr (p _ (by decide) (by decide))
    have j215 : sJ τ 215 x = sJ σ 215 x := mf_J fr (p _ (by decide) (by decide))
    have i32 : sI τm 32 y = sI μ 32 y := mf_I frm (q _ (by decide) (by decide))
    have i34 : sI τm 34 y = sI μ 34 y := mf_I frm (q _ (by decide) (by decide))
    have j33 : sJ τm 33 y = sJ μ 33 y := mf_J frm (q _ (by decide) (by decide))
    have j35 : sJ τm 35 y = sJ μ 35 y := mf_J frm (q _ (by decide) (by decide))
    refine ⟨?_, ?_, by rw [i212]; exact r3, by rw [i212]; exact r4⟩
    · rw [i212, j213, i32, j33]; exact VV_mono wl r1
    · rw [i214, j215, i34, j35]; exact VV_mono wl r2
  · rw [mf_I fr (p _ (by decide) (by decide)), mf_I frm (q _ (by decide) (by decide))]; exact (E a b hab).2.1
  · rw [mf_J fr (p _ (by decide) (by decide)), mf_I frm (q _ (by decide) (by decide))]; exact (E a b hab).2.2
/-- functions: K says which code of the system and which body of the reference are alike, with so many captures; kc: how many a body captures -/
def RF (K : Int32 → Int32 → Int32 → Prop) (w : WD) (σ μ : mS) : Prop := (∃ f, CX σ ((wF w).map Prod.fst) f) ∧ CM μ ((wF w).map Prod.snd) ∧ sF σ 232 = sF μ 52 ∧ (∀ a b, (a, b) ∈ wF w → sJ σ 225 a = Int32.toInt64 (sI μ 44 b) ∧ (0 ≤ sI μ 46 b ∧ sI μ 46 b ≤ 12000) ∧ sI μ 46 b + sI σ 224 a ≤ sF μ 52 ∧ ((0 ≤ sI σ 222 a ∧ 0 ≤ sI μ 45 b ∧ K (sI σ 222 a) (sI μ 45 b) (sI σ 224 a)) ∨ (sI σ 224 a = 0 ∧ ∃ c d, (c, d) ∈ wC w ∧ sI σ 222 a = -1 - c ∧ sI μ 45 b = -1 - d)) ∧ ∀ i, 0 ≤ i → i < sI σ 224 a → (sI σ 231 (sI σ 223 a + i), sI μ 50 (sI μ 46 b + i)) ∈ wB w)
def RB (w : WD) (σ μ : mS) : Prop := (∃ f, BX σ ((wB w).map Prod.fst) f) ∧ BM μ ((wB w).map Prod.snd) ∧ (∀ a b, (a, b) ∈ wB w → VV w (sI σ 233 a) (sJ σ 234 a) (sI μ 53 b) (sJ μ 54 b))
theorem RF_fr {P Q : Nat → Bool} {K : Int32 → Int32 → Int32 → Prop} {w w' : WD} {σ μ τ τm : mS} (R : RF K w σ μ) (wl : wle w w') (wf : wF w' = wF w) (fr : m_fr P σ τ) (frm : m_fr Q μ τm) (hp : ∀ k, 222 ≤ k → k ≤ 232 → P k = false) (hq : ∀ k, 44 ≤ k → k ≤ 52 → k ≠ 51 → Q k = false) : RF K w' τ τm := by
  have i : ∀ k, 222 ≤ k → k ≤ 232 → sI τ k = sI σ k := fun k a b => by funext m; exact mf_I fr (hp k a b)
  have f : ∀ k, 222 ≤ k → k ≤ 232 → sF τ k = sF σ k := fun k a b => mf_F fr (hp k a b)
  have j : ∀ m, sJ τ 225 m = sJ σ 225 m := fun m => mf_J fr (hp 225 (by decide) (by decide))
  have im : ∀ k, 44 ≤ k → k ≤ 52 → k ≠ 51 → sI τm k = sI μ k := fun k a b c => by funext m; exact mf_I frm (hq k a b c)
  have fm : ∀ k, 44 ≤ k → k ≤ 52 → k ≠ 51 → sF τm k = sF μ k := fun k a b c => mf_F frm (hq k a b c)
  obtain ⟨⟨ff, R1⟩, R2, R3, R4⟩ := R
  simp only [RF]
  rw [wf]
  refine ⟨⟨ff, ?_⟩, ?_, ?_, fun a b h => ?_⟩
  · simp only [CX, i 226 (by decide) (by decide), f 227 (by decide) (by decide), f 228 (by decide) (by decide), f 229 (by decide) (by decide), f 230 (by decide) (by decide), i 223 (by decide) (by decide), i 224 (by decide) (by decide), f 232 (by decide) (by decide)] at R1 ⊢
    exact R1
  · simp only [CM, im 47 (by decide) (by decide) (by decide), fm 48 (by decide) (by decide) (by decide), fm 49 (by decide) (by decide) (by decide), fm 52 (by decide) (by decide) (by decide)] at R2 ⊢
    exact R2
  · rw [f 232 (by decide) (by decide), fm 52 (by decide) (by decide) (by decide)]; exact R3
  · obtain ⟨q1, q2, q3, q4, q5⟩ := R4 a b h
    rw [j, i 222 (by decide) (by decide), i 223 (by decide) (by decide), i 224 (by decide) (by decide), i 231 (by decide) (by decide), im 44 (by decide) (by decide) (by decide), im 45 (by decide) (by decide) (by decide), im 46 (by decide) (by decide) (by decide), im 50 (by decide) (by decide) (by decide), fm 52 (by decide) (by decide) (by decide)]
    refine ⟨q1, q2, q3, ?_, fun k k0 k1 => wl.2.2.2.2.1 _ (q5 k k0 k1)⟩
    rcases q4 with q4 | ⟨q4, c, d, q6, q7⟩
    · exact .inl q4
    · exact .inr ⟨q4, c, d, wl.2.2.2.2.2 _ q6, q7⟩
theorem RB_fr {P Q : Nat → Bool} {w w' : WD} {σ μ τ τm : mS} (R : RB w σ μ) (wl : wle w w') (wb : wB w' = wB w) (fr : m_fr P σ τ) (frm : m_fr Q μ τm) (hp : ∀ k, 233 ≤ k → k ≤ 237 → P k = false) (hq : ∀ k, 53 ≤ k → k ≤ 57 → Q k = false) : RB w' τ τm := by
  have i : ∀ k, 233 ≤ k → k ≤ 237 → sI τ k = sI σ k := fun k a b => by funext m; exact mf_I fr (hp k a b)
  have f : ∀ k, 233 ≤ k → k ≤ 237 → sF τ k = sF σ k := fun k a b => mf_F fr (hp k a b)
  have im : ∀ k, 53 ≤ k → k ≤ 57 → sI τm k = sI μ k := fun k a b => by funext m; exact mf_I frm (hq k a b)
  have fm : ∀ k, 53 ≤ k → k ≤ 57 → sF τm k = sF μ k := fun k a b => mf_F frm (hq k a b)
  obtain ⟨⟨ff, R1⟩, R2, R3⟩ := R
  simp only [RB]
  rw [wb]
  refine ⟨⟨ff, ?_⟩, ?_, fun a b h => ?_⟩
  · simp only [BX, i 235 (by decide) (by decide), f 236 (by decide) (by decide), f 237 (by decide) (by decide)] at R1 ⊢
    exact R1
  · simp only [BM, im 55 (by decide) (by decide), fm 56 (by decide) (by decide), fm 57 (by decide) (by decide)] at R2 ⊢
    exact R2
  · rw [i 233 (by decide) (by decide), im 53 (by decide) (by decide), mf_J fr (hp 234 (by decide) (by decide)), mf_J frm (hq 54 (by decide) (by decide))]
    exact VV_mono wl (R3 a b h)
