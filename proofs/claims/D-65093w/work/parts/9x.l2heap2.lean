/-! LAYER 2: the two sides: the whole heap, and what is done to it -/
def RH (K : Int32 → Int32 → Int32 → Prop) (q : Int) (w : WD) (σ μ : mS) : Prop := WOK w ∧ RS w σ μ ∧ (∃ es es', RT w σ μ es es') ∧ RF K w σ μ ∧ RB w σ μ ∧ sG σ 194 = Int32.toInt64 (sF μ 18) + 1 ∧ 0 ≤ sF μ 18 ∧ (sF μ 18).toInt + (sF μ 29).toInt + (sF μ 48).toInt ≤ q ∧ q ≤ 1000000000
theorem RH_ser {K : Int32 → Int32 → Int32 → Prop} {q : Int} {w : WD} {σ μ : mS} (H : RH K q w σ μ) : sF μ 18 < 2147483647 := by
  obtain ⟨_, _, ⟨es, es', R⟩, F, _, _, s0, s1, s2⟩ := H
  have t := R.2.2.2.1.1
  have f := F.2.1.1.1
  rw [tI_le] at t f s0
  rw [tI_lt]
  have z : (0 : Int32).toInt = 0 := rfl
  have z2 : (2147483647 : Int32).toInt = 2147483647 := rfl
  omega
/-- a lookup -/
theorem live_h {N : Nat} (hN : BIG ≤ N) {K : Int32 → Int32 → Int32 → Prop} {q : Int} {w : WD} {σ μ : mS} {a b kx km : Int32} {vx vm : Int64} (H : RH K q w σ μ) (h : (a, b) ∈ wT w) (k : VV w kx vx km vm) (k0 : kx ≠ 0) (k8 : kx ≠ 8) : ∃ r c d, xx3_live N σ a kx vx = some (r, σ) ∧ mm_get N μ b km vm = some (gt μ c d) ∧ ((r = -1 ∧ c = 0 ∧ d = 0) ∨ (0 ≤ r ∧ r < 20000 ∧ sI σ 214 r ≠ 0 ∧ c ≠ 0 ∧ VV w (sI σ 214 r) (sJ σ 215 r) c d)) := by
  obtain ⟨W, S, ⟨es, es', R⟩, _⟩ := H
  obtain ⟨r, c, d, r1, r2, r3⟩ := live_2 hN W S R h k k0 k8
  refine ⟨r, c, d, r1, r2, ?_⟩
  rcases r3 with r3 | ⟨a1, a2, _, a4, a5, a6⟩
  · exact .inl r3
  · exact .inr ⟨a1, a2, a4, a5, a6⟩
/-- the heap stays alike if neither side's heap fields change -/
theorem RH_fr {P Q : Nat → Bool} {K : Int32 → Int32 → Int32 → Prop} {q : Int} {w : WD} {σ μ τ τm : mS} (H : RH K q w σ μ) (fr : m_fr P σ τ) (frm : m_fr Q μ τm) (hp : ∀ k, 128 ≤ k → k ≤ 237 → P k = false) (hq : ∀ k, 2 ≤ k → k ≤ 57 → k ≠ 11 → k ≠ 16 → k ≠ 17 → k ≠ 42 → k ≠ 43 → k ≠ 51 → Q k = false) : RH K q w τ τm := by
  obtain ⟨W, S, ⟨es, es', R⟩, F, B, s1, s2, s3, s4⟩ := H
  have f18 : sF τm 18 = sF μ 18 := mf_F frm (hq _ (by decide) (by decide) (by decide) (by decide) (by decide) (by decide) (by decide) (by decide))
  have f29 : sF τm 29 = sF μ 29 := mf_F frm (hq _ (by decide) (by decide) (by decide) (by decide) (by decide) (by decide) (by decide) (by decide))
  have f48 : sF τm 48 = sF μ 48 := mf_F frm (hq _ (by decide) (by decide) (by decide) (by decide) (by decide) (by decide) (by decide) (by decide))
  refine ⟨W, RS_fr S fr frm (fun k a b => hp k a (by omega)) (fun k a b c => hq k b (by omega) c (by omega) (by omega) (by omega) (by omega) (by omega)), ⟨es, es', RT_fr R wle_rfl rfl fr frm (fun k h => hp k (by omega) (by omega)) (fun k h => hq k (by omega) (by omega) (by omega) (by omega) (by omega) (by omega) (by omega) (by omega))⟩, RF_fr F wle_rfl rfl fr frm (fun k a b => hp k (by omega) (by omega)) (fun k a b c => hq k (by omega) (by omega) (by omega) (by omega) (by omega) (by omega) (by omega) c), RB_fr B wle_rfl rfl fr frm (fun k a b => hp k (by omega) (by omega)) (fun k a b => hq k (by omega) (by omega) (by omega) (by omega) (by omega) (by omega) (by omega) (by omega)), ?_, by rw [f18]; exact s2, by rw [f18, f29, f48]; exact s3, s4⟩
  rw [f18, mf_G fr (hp 194 (by decide) (by decide))]; exact s1
def inR (a b k : Nat) : Bool := decide (a ≤ k) && decide (k ≤ b)
theorem inR_f {a b k : Nat} (h : k < a ∨ b < k) : inR a b k = false := by
  simp only [inR, Bool.and_eq_false_iff, decide_eq_false_iff_not]
  omega
/-- put on both sides -/
theorem put_h {N : Nat} (hN : BIG ≤ N) {K : Int32 → Int32 → Int32 → Prop} {q : Int} {w : WD} {σ μ : mS} {a b kx km tx tm : Int32} {vx vm yx ym : Int64} (H : RH K q w σ μ) (h : (a, b) ∈ wT w) (k : VV w kx vx km vm) (k0 : kx ≠ 0) (k8 : kx ≠ 8) (v : VV w tx yx tm ym) :
    ∃ τ τm, RH K q w τ τm ∧ m_fr (inR 197 221) σ τ ∧ m_fr (inR 21 41) μ τm ∧ ((xx3_put N σ a kx vx tx yx = some (.ok τ) ∧ mm_set N μ b km vm tm ym = some (1, τm)) ∨ (xx3_put N σ a kx vx tx yx = some (.error (1101, τ)) ∧ mm_set N μ b km vm tm ym = bd (mm_breakOff N τm 3) (fun z => some (0, z)))) := by
  obtain ⟨W, S, ⟨es, es', R⟩, F, B, s1, s2, s3, s4⟩ := H
  have key : ∀ τ τm e2 e2', RT w τ τm e2 e2' → m_fr (inR 197 221) σ τ → m_fr (fun k => inR 21 41 k && (k != 29) && (k != 28) && (k != 30)) μ τm → RH K q w τ τm := fun τ τm e2 e2' R' fr frm => by
    have qf : ∀ k, k < 21 ∨ 41 < k ∨ k = 29 → (fun k => inR 21 41 k && (k != 29) && (k != 28) && (k != 30)) k = false := fun k hk => by
      rcases hk with hk | hk | hk
      · simp [inR_f (a := 21) (b := 41) (k := k) (.inl hk)]
      · simp [inR_f (a := 21) (b := 41) (k := k) (.inr hk)]
      · simp [hk]
    have f18 : sF τm 18 = sF μ 18 := mf_F frm (qf _ (.inl (by decide)))
    have f29 : sF τm 29 = sF μ 29 := mf_F frm (qf _ (.inr (.inr rfl)))
    have f48 : sF τm 48 = sF μ 48 := mf_F frm (qf _ (.inr (.inl (by decide))))
    refine ⟨W, RS_fr S fr frm (fun k a b => inR_f (.inl (by omega))) (fun k a b c => qf k (.inl (by omega))), ⟨e2, e2', R'⟩, RF_fr F wle_rfl rfl fr frm (fun k a b => inR_f (.inr (by omega))) (fun k a b c => qf k (.inr (.inl (by omega)))), RB_fr B wle_rfl rfl fr frm (fun k a b => inR_f (.inr (by omega))) (fun k a b => qf k (.inr (.inl (by omega)))), ?_, by rw [f18]; exact s2, by rw [f18, f29, f48]; exact s3, s4⟩
    rw [f18, mf_G fr (inR_f (.inl (by decide)))]; exact s1
  have hx : ∀ k, inR 197 221 k = false → hP k = false := fun k hk => by
    simp only [inR, Bool.and_eq_false_iff, decide_eq_false_iff_not] at hk
    simp only [hP, hY, hW, hZ, hE, hV, hU, List.contains_cons, List.contains_nil, Bool.or_eq_false_iff, beq_eq_false_iff_ne]
    repeat' (first | exact trivial | omega | apply And.intro)
  have hm : ∀ k, (inR 21 41 k && (k != 29) && (k != 28) && (k != 30)) = false → mP k = false := fun k hk => by
    simp only [inR, Bool.and_eq_false_iff, decide_eq_false_iff_not, bne_eq_false_iff_eq] at hk
    simp only [mP, mY, mZ, mE, hm3, List.contains_cons, List.contains_nil, Bool.or_eq_false_iff, beq_eq_false_iff_ne]
    repeat' (first | exact trivial | omega | apply And.intro)
  have hx2 : ∀ k, inR 197 221 k = false → hY k = false := fun k hk => by
    have := hx k hk
    simp only [hP, Bool.or_eq_false_iff] at this
    exact this.1
  have hm2 : ∀ k, (inR 21 41 k && (k != 29) && (k != 28) && (k != 30)) = false → mY k = false := fun k hk => by
    have := hm k hk
    simp only [mP, Bool.or_eq_false_iff] at this
    exact this.1
  have wk : ∀ k, inR 21 41 k = false → (fun k => inR 21 41 k && (k != 29) && (k != 28) && (k != 30)) k = false := fun k hk => by simp [hk]
  rcases put_2 hN W S R h k k0 k8 v with ⟨τ, τm, e2, e2', r1, r2, r3, r4, r5⟩ | ⟨τ, τm, e2, e2', r1, r2, r3, r4, r5⟩
  · have fx := mf_mono r4 hx
    have fm := mf_mono r5 hm
    exact ⟨τ, τm, key τ τm e2 e2' r3 fx fm, fx, mf_mono fm wk, .inl ⟨r1, r2⟩⟩
  · have fx := mf_mono r4 hx2
    have fm := mf_mono r5 hm2
    exact ⟨τ, τm, key τ τm e2 e2' r3 fx fm, fx, mf_mono fm wk, .inr ⟨r1, r2⟩⟩
