/-! LAYER 2: the reference's collector: all sweeps -/
theorem TM_sm {μ τm : mS} {bk : Int32 → List Int32} (H : TM μ bk) (q5 : sF τm 5 = sF μ 5) (q6 : sF τm 6 = sF μ 6) (i7 : ∀ m, sI τm 7 m = sI μ 7 m) (i8 : ∀ m, sI τm 8 m = sI μ 8 m) (i9 : ∀ m, sI τm 9 m = sI μ 9 m) (sm : ∀ s, 0 ≤ s → s < 30000 → m_sm μ τm s) : TM τm bk := by
  obtain ⟨t1, t2, t3, t4, t5, t6, t7⟩ := H
  have sm' : ∀ s, 0 ≤ s → s < sF μ 5 → m_sm μ τm s := fun s s0 s1 => sm s s0 (Int32.lt_of_lt_of_le s1 t2)
  simp only [TM]
  rw [q5, q6]
  refine ⟨t1, t2, t3, t4, fun x x0 x1 => ?_, fun s s0 s1 => ?_, fun m m0 m1 => by rw [i7]; exact t7 m m0 m1⟩
  · obtain ⟨u1, u2, u3⟩ := t5 x x0 x1
    simp only [i8, i9]
    refine ⟨u1, u2, fun s => (u3 s).trans ⟨?_, ?_⟩⟩
    · rintro ⟨s0, s1, s2⟩
      exact ⟨s0, s1, by rw [(sm' s s0 s1).2.2.1]; exact s2⟩
    · rintro ⟨s0, s1, s2⟩
      rw [(sm' s s0 s1).2.2.1] at s2
      exact ⟨s0, s1, s2⟩
  · obtain ⟨q1, q2, q3, q4, q5, q6⟩ := t6 s s0 s1
    have h := sm' s s0 s1
    rw [h.1, h.2.1]
    exact ⟨q1, q2, q3, q4, q5, msm_hs h q2 q6⟩
def ssK (k : Nat) : Bool := [2, 10, 11, 12, 13, 14, 15, 300].contains k
def gcM (k : Nat) : Bool := mmF k || (keF k || (ssK k || soK k))
/-- what the reference's collector leaves -/
def SWM (μ μ' : mS) (w : WD) (es' : Int32 → List Int32) (Rm : OB2 → Prop) : Prop :=
  ((∃ Mk, SM μ' Mk ∧ (∀ b, b ∈ Mk ↔ (30000 ≤ b ∧ b < 42000) ∧ Rm (1, b)) ∧ (sF μ' 12).toInt = szs μ Mk) ∧ (∃ bk, TM μ' bk) ∧ (∀ b, (b ∈ (wS w).map Prod.snd ∧ Rm (1, b)) ∨ b ∈ (wX w).map Prod.snd → mst μ μ' b))
  ∧ (∃ Mt ps, MM μ' Mt (fun t => (es' t).filter (alm μ)) ps ∧ FTm μ' Mt ∧ (∀ t, t ∈ Mt ↔ (0 ≤ t ∧ t < 3000) ∧ Rm (2, t)))
  ∧ (∃ Mf, CM μ' Mf ∧ (∀ b, b ∈ Mf ↔ (64 ≤ b ∧ b < 4064) ∧ Rm (3, b)) ∧ (sF μ' 52).toInt = cps μ Mf ∧ (∀ b, b ∈ Mf → 0 ≤ sI μ' 46 b ∧ sI μ' 46 b ≤ 12000 ∧ sI μ' 46 b + capN μ b ≤ sF μ' 52 ∧ ∀ k, 0 ≤ k → k < capN μ b → sI μ' 50 (sI μ' 46 b + k) = sI μ 50 (sI μ 46 b + k)))
  ∧ (∃ Mb, BM μ' Mb ∧ (∀ b, b ∈ Mb ↔ (0 ≤ b ∧ b < 12000) ∧ Rm (4, b)))
  ∧ (∃ D, D.Nodup ∧ (∀ d, d ∈ D ↔ (0 ≤ d ∧ d < 120) ∧ sI μ 170 d ≠ 0 ∧ ¬ Rm (5, d)) ∧ (∀ d, 0 ≤ d → sI μ' 170 d = if d ∈ D then 0 else sI μ 170 d) ∧ (∀ d, 0 ≤ d → sI μ' 166 d = if d ∈ D then 0 else sI μ 166 d) ∧ (∀ d, 0 ≤ d → sI μ' 164 d = if d ∈ D then 0 else sI μ 164 d) ∧ (sF μ' 171).toInt = (sF μ 171).toInt - D.length ∧ (sF μ' 155).toInt = (sF μ 155).toInt - k166 μ D)
  ∧ m_fr gcM μ μ'
theorem PRm_1 {w : WD} {b : Int32} {o : OB2} (p : PR w o (1, b)) : b ∈ (wS w).map Prod.snd := by
  rcases p with ⟨_, _, p⟩ | ⟨_, e, _⟩ | ⟨_, e, _⟩ | ⟨_, e, _⟩ | ⟨_, e, _⟩
  · exact List.mem_map.mpr ⟨_, p, rfl⟩
  · exact absurd (show (1 : Nat) = 2 from e) (by decide)
  · exact absurd (show (1 : Nat) = 3 from e) (by decide)
  · exact absurd (show (1 : Nat) = 4 from e) (by decide)
  · exact absurd (show (1 : Nat) = 5 from e) (by decide)
theorem PRm_2 {w : WD} {b : Int32} {o : OB2} (p : PR w o (2, b)) : b ∈ (wT w).map Prod.snd := by
  rcases p with ⟨_, e, _⟩ | ⟨_, _, p⟩ | ⟨_, e, _⟩ | ⟨_, e, _⟩ | ⟨_, e, _⟩
  · exact absurd (show (2 : Nat) = 1 from e) (by decide)
  · exact List.mem_map.mpr ⟨_, p, rfl⟩
  · exact absurd (show (2 : Nat) = 3 from e) (by decide)
  · exact absurd (show (2 : Nat) = 4 from e) (by decide)
  · exact absurd (show (2 : Nat) = 5 from e) (by decide)
theorem PRm_3 {w : WD} {b : Int32} {o : OB2} (p : PR w o (3, b)) : b ∈ (wF w).map Prod.snd := by
  rcases p with ⟨_, e, _⟩ | ⟨_, e, _⟩ | ⟨_, _, p⟩ | ⟨_, e, _⟩ | ⟨_, e, _⟩
  · exact absurd (show (3 : Nat) = 1 from e) (by decide)
  · exact absurd (show (3 : Nat) = 2 from e) (by decide)
  · exact List.mem_map.mpr ⟨_, p, rfl⟩
  · exact absurd (show (3 : Nat) = 4 from e) (by decide)
  · exact absurd (show (3 : Nat) = 5 from e) (by decide)
/-- how many captures a function has, on both sides -/
theorem RF_cap {K : Int32 → Int32 → Int32 → Prop} {w : WD} {σ μ : mS} (R : RF K w σ μ) (P : PRK w) (hK : ∀ g b n, K g b n → sI μ 81 b = n) {a b : Int32} (h : (a, b) ∈ wF w) : capN μ b = sI σ 224 a := by
  obtain ⟨_, _, _, q4, _⟩ := R.2.2.2 a b h
  rcases q4 with ⟨_, b0, kk⟩ | ⟨z, c, d, cd, _, e2⟩
  · rw [capN, if_pos b0, hK _ _ _ kk]
  · have pc := P.2.2.2.2.2 c d cd
    have nd := neg_c pc.2.1 (Int32.lt_trans pc.2.2 (by decide))
    rw [capN, if_neg (Int32.not_le.mpr (by rw [e2]; exact nd.1)), z]
theorem m_by_f {P : Nat → Bool} {σ τ : mS} {h k : Int32} (fr : m_fr P σ τ) (h1 : P 2 = false) (h2 : P 7 = false) (h3 : P 10 = false) : m_by τ h k = m_by σ h k := by
  simp only [m_by, mf_I fr h1, mf_I fr h2, mf_I fr h3]
theorem SM_fr0 {P : Nat → Bool} {σ τ : mS} {o : List Int32} (H : SM σ o) (fr : m_fr P σ τ) (hp : ∀ k, k ∈ [2, 3, 4, 7, 10, 12, 13, 14, 15] → P k = false) : SM τ o := by
  have i14 : sI τ 14 = sI σ 14 := funext (fun i => mf_I fr (hp _ (by decide)))
  have i2 : ∀ x, sI τ 2 x = sI σ 2 x := fun x => mf_I fr (hp _ (by decide))
  have i3 : ∀ x, sI τ 3 x = sI σ 3 x := fun x => mf_I fr (hp _ (by decide))
  have i4 : ∀ x, sI τ 4 x = sI σ 4 x := fun x => mf_I fr (hp _ (by decide))
  have by' : ∀ x, m_by τ x = m_by σ x := fun x => funext (fun k => m_by_f fr (hp _ (by decide)) (hp _ (by decide)) (hp _ (by decide)))
  simp only [SM, i14, mf_F fr (hp 15 (by decide)), mf_F fr (hp 13 (by decide)), mf_F fr (hp 12 (by decide)), i2, i3, m_hs, m_sz, i4, by'] at H ⊢
  exact H
/-- marks of both kinds say the same -/
theorem mk_01 {τ : mS} {Rm : OB2 → Prop} {k : Nat} {b : Int32} (m01 : ∀ o, okm o → sI τ (mkfm o.1) (mki o) = 0 ∨ mkm τ o) (mR : ∀ o, okm o → (mkm τ o ↔ Rm o)) (ho : okm (k, b)) : (sI τ (mkfm k) (mki (k, b)) = 0 ∨ sI τ (mkfm k) (mki (k, b)) = 1) ∧ (sI τ (mkfm k) (mki (k, b)) = 1 ↔ Rm (k, b)) := ⟨m01 (k, b) ho, mR (k, b) ho⟩
theorem sh_30 {k : Int32} (h0 : 0 ≤ k) (h1 : k < 12000) : (30000 ≤ 30000 + k ∧ 30000 + k < 42000) ∧ (30000 + k) - 30000 = k := ⟨⟨by lia, by lia⟩, by lia⟩
theorem sh_30' {b : Int32} (h0 : 30000 ≤ b) (h1 : b < 42000) : (0 ≤ b - 30000 ∧ b - 30000 < 12000) ∧ b = 30000 + (b - 30000) := ⟨⟨by lia, by lia⟩, by lia⟩
theorem sh_64 {k : Int32} (h0 : 0 ≤ k) (h1 : k < 4000) : (64 ≤ 64 + k ∧ 64 + k < 4064) ∧ (64 + k) - 64 = k := ⟨⟨by lia, by lia⟩, by lia⟩
theorem sh_64' {b : Int32} (h0 : 64 ≤ b) (h1 : b < 4064) : (0 ≤ b - 64 ∧ b - 64 < 4000) ∧ b = 64 + (b - 64) := ⟨⟨by lia, by lia⟩, by lia⟩
