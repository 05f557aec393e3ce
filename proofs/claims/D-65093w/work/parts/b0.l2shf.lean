/-! LAYER 2: calls of a coroutine lie elsewhere -/
theorem RG_sh {w : WD} {σ : mS} {f : Int32} {pt pt' : Int32 → Int32} {pv pv' : Int32 → Int64} {ρ : List Int32} {B B' : Int32} (h : RG w σ f pt pv B ρ) (hp : ∀ j, j < ρ.length → pt' (B' + Int32.ofNat j) = pt (B + Int32.ofNat j) ∧ pv' (B' + Int32.ofNat j) = pv (B + Int32.ofNat j)) : RG w σ f pt' pv' B' ρ := RG_of (fun j hj => by
  rw [(hp j hj).1, (hp j hj).2]; exact RG_at h hj)
def shR (k0 k0' B0 B0' : Int32) (ff ff' : Int32 → Nat → Int32) (n : Int32) : Prop := ∀ k, k0 ≤ k → k < n → (∀ j, j < 10 → j ≠ 3 → j ≠ 5 → ff' (k - k0 + k0') j = ff k j) ∧ ff' (k - k0 + k0') 3 = ff k 3 - B0 + B0' ∧ ff' (k - k0 + k0') 5 = ff k 5 - B0 + B0'
theorem FL_sh {S : SR} {w : WD} {σ : mS} {ff ff' : Int32 → Nat → Int32} {pt pt' : Int32 → Int32} {pv pv' : Int32 → Int64} {bt k0 k0' B0 B0' : Int32} (b0 : 0 ≤ B0 ∧ B0 ≤ 480000) (b0' : 0 ≤ B0' ∧ B0' ≤ 480000) (k00 : 0 ≤ k0 ∧ k0 ≤ 256) (k00' : 0 ≤ k0' ∧ k0' ≤ 256) : ∀ {fl : List Int32} {n : Int32} {ct : CT}, FL S w σ ff pt pv bt k0 B0 fl n ct → n ≤ 256 → shR k0 k0' B0 B0' ff ff' n → (∀ i, B0 ≤ i → i < ct.2.2.2.1 → pt' (i - B0 + B0') = pt i ∧ pv' (i - B0 + B0') = pv i) → ct.2.2.2.1 ≤ 480000 → FL S w σ ff' pt' pv' bt k0' B0' fl (n - k0 + k0') (ct.1, ct.2.1, ct.2.2.1, ct.2.2.2.1 - B0 + B0', ct.2.2.2.2.1, ct.2.2.2.2.2)
  | [], n, ct, h, _, _, _, _ => by
    obtain ⟨h1, h2, h3, h4⟩ := h
    exact ⟨by lia, by simp only; lia, h3, h4⟩
  | f :: fl, n, ct, h, hn, hr, hp, hc => by
    obtain ⟨h1, ⟨h2, h2'⟩, h3, h4⟩ := h
    obtain ⟨r1, r3, r5⟩ := hr (n - 1) (by lia) (by lia)
    have en : n - k0 + k0' - 1 = n - 1 - k0 + k0' := by lia
    have a5 : ff (n - 1) 5 ≤ 480000 ∧ ff (n - 1) 5 < ct.2.2.2.1 := by
      rcases h3 with ⟨_, _, _, _, s5, _⟩ | ⟨ρ, ⟨_, _, _, _, _, _, ⟨_, s7, s7'⟩, s8, _⟩, hpl, hρ, _⟩
      · have : ff (n - 1) 5 ≤ 600000 := by lia
        exact ⟨by lia, by lia⟩
      · have lb := oN_bd hρ
        have : ff (n - 1) 5 ≤ 600000 := by lia
        exact ⟨by lia, by lia⟩
    refine ⟨by lia, ?_, ?_, ?_⟩
    · rw [en, r5]
      exact ⟨by lia, by lia⟩
    · rw [en]
      rcases h3 with ⟨s1, s2, s3, s4, s5, s6, s7, s8, o, o1, o2, o3⟩ | ⟨ρ, ⟨c1, c2, c3, c4, c5, c6, ⟨c7, c7', c7''⟩, c8, c9, c10, c11, c12, c13⟩, hpl, hρ, LEx, ctx, LVx⟩
      · have q := hp (ff (n - 1) 5) h2 a5.2
        refine .inl ⟨s1, s2, s3, by rw [r1 0 (by omega) (by omega) (by omega)]; exact s4, by simp only; rw [r5]; lia, s6, s7, by rw [r5, q.1]; exact s8, o, o1, o2, by rw [r5, q.2]; exact o3⟩
      · have q := hp (ff (n - 1) 5) h2 a5.2
        have lb := oN_bd hρ
        have e4 := r1 4 (by omega) (by omega) (by omega)
        refine .inr ⟨ρ, ⟨c1, c2, by rw [r1 0 (by omega) (by omega) (by omega)]; exact c3, by rw [r1 1 (by omega) (by omega) (by omega)]; exact c4, c5, c6, by rw [e4]; exact ⟨c7, c7', c7''⟩, by rw [r3, r5, e4]; lia, by rw [e4]; exact c9, ?_, ?_, by rw [r5, q.1]; exact c12, by rw [r5, r1 1 (by omega) (by omega) (by omega), q.2]; exact c13⟩, ?_, hρ, ?_, ?_, LVx⟩
        · refine RG_sh c10 (fun j hj => ?_)
          have lj := oN_lt2 hj hρ
          rw [r3, show ff (n - 1) 3 - B0 + B0' + Int32.ofNat j = ff (n - 1) 3 + Int32.ofNat j - B0 + B0' by lia]
          exact hp _ (by lia) (by lia)
        · rw [e4]
          refine RG_sh c11 (fun j hj => ?_)
          rw [rng_len] at hj
          have lj := cl_lt hj
          rw [r5, show ff (n - 1) 5 - B0 + B0' + 1 + Int32.ofNat j = ff (n - 1) 5 + 1 + Int32.ofNat j - B0 + B0' by lia]
          exact hp _ (by lia) (by lia)
        · simp only; rw [r3]; lia
        · simp only [LE]; rw [r1 8 (by omega) (by omega) (by omega)]; exact LEx
        · rw [r1 2 (by omega) (by omega) (by omega)]; exact ctx
    · have ih := FL_sh b0 b0' k00 k00' h4 (by lia) (fun k k0' k1 => hr k k0' (by lia)) (fun i i0 i1 => hp i i0 (by have : i < ff (n - 1) 5 := i1; lia)) a5.1
      rw [en]
      have ec : ctO σ ff' f (n - 1 - k0 + k0') = ((ctO σ ff f (n - 1)).1, (ctO σ ff f (n - 1)).2.1, (ctO σ ff f (n - 1)).2.2.1, (ctO σ ff f (n - 1)).2.2.2.1 - B0 + B0', (ctO σ ff f (n - 1)).2.2.2.2.1, (ctO σ ff f (n - 1)).2.2.2.2.2) := by
        simp only [ctO]
        rw [r5, r1 6 (by omega) (by omega) (by omega), r1 7 (by omega) (by omega) (by omega)]
      rw [ec]
      exact ih
