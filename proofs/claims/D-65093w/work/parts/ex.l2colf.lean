/-! LAYER 2: the collectors: the reference's rows lie in range -/
theorem shm_1 {a s T k : Int32} (h0 : 0 ≤ a) (h1 : a ≤ 500000) (s1 : s ≤ 500000) (h2 : a + s ≤ T) (h3 : T ≤ 500000) (k0 : 0 ≤ k) (k1 : k < s) : 0 ≤ a + k ∧ a + k < 500000 := ⟨by lia, by lia⟩
theorem shm_2 {r n R k : Int32} (h0 : 0 ≤ r) (h1 : r ≤ 5000) (n1 : n ≤ 500) (h2 : r + 10 * n ≤ R) (h3 : R ≤ 5000) (k0 : 0 ≤ k) (k1 : k < n) : (0 ≤ r + 10 * k ∧ r + 10 * k < 5000) ∧ (0 ≤ r + 10 * k + 1 ∧ r + 10 * k + 1 < 5000) := ⟨⟨by lia, by lia⟩, by lia, by lia⟩
theorem shm_3 {a n T k : Int32} (h0 : 0 ≤ a) (h1 : a ≤ 12000) (n0 : 0 ≤ n) (n1 : n ≤ 12000) (h2 : a + n ≤ T) (h3 : T ≤ 12000) (k0 : 0 ≤ k) (k1 : k < n) : 0 ≤ a + k ∧ a + k < 12000 := ⟨by lia, by lia⟩
theorem QU_M {S : SR} {K : Int32 → Int32 → Int32 → Prop} {q : Int} {w : WD} {xf : Int32 → List Int32} {σ μ : mS} (H : QU S K q w xf σ μ) (hK : ∀ g b n, K g b n → sI μ 81 b = n) (hK2 : ∀ g b n, K g b n → b < 9000) {es es' : Int32 → List Int32} (R : RT w σ μ es es') : CEM μ es' (RCM μ es') ∧ SHM μ es' (RCM μ es') := by
  have H' := H
  obtain ⟨⟨RHh, hq⟩, Z, HH, X, x0, C, _⟩ := H
  have P := (RH_PRK RHh (fun a b hab => (C.1 a b hab).1)).1
  have rc : ∀ o, RCM μ es' o → ∃ o', PR w o' o := fun o h => by
    obtain ⟨o', p, _⟩ := RC_2 H' hK R h
    exact ⟨o', p⟩
  have kd : ∀ (k : Nat) (x : Int32), RCM μ es' (k, x) → ∃ x', PR w (k, x') (k, x) := fun k x h => by
    obtain ⟨⟨k', x'⟩, p⟩ := rc _ h
    have : k' = k := by
      rcases p with ⟨a, b, _⟩ | ⟨a, b, _⟩ | ⟨a, b, _⟩ | ⟨a, b, _⟩ | ⟨a, b, _⟩ <;> exact a.trans b.symm
    subst this
    exact ⟨x', p⟩
  obtain ⟨ps', MMm⟩ := R.2.2.1
  refine ⟨⟨fun o y h e => RCM_s h e, fun o h => ?_⟩, fun t h => ?_, fun f h h45 => ?_, fun d h h156 => ?_⟩
  · obtain ⟨o', p⟩ := rc o h
    exact (PR_ok P p).2
  · obtain ⟨t', p⟩ := kd 2 t h
    rcases p with ⟨e, _⟩ | ⟨_, _, p⟩ | ⟨e, _⟩ | ⟨e, _⟩ | ⟨e, _⟩
    · exact absurd (show (2 : Nat) = 1 from e) (by decide)
    · have tm : t ∈ tM w := List.mem_map.mpr ⟨_, p, rfl⟩
      have ex := MMm.2.2.2.1 t tm
      have fx := MMm.1.1 t tm
      refine ⟨ex.2.2.1, fun e he => ⟨(fx e he).1, (fx e he).2.1⟩, ?_⟩
      exact nd_len (M := 20000) _ ex.2.2.2.2.1 (fun e he => ⟨(fx e he).1, tI_lt.mp (fx e he).2.1⟩)
    · exact absurd (show (2 : Nat) = 3 from e) (by decide)
    · exact absurd (show (2 : Nat) = 4 from e) (by decide)
    · exact absurd (show (2 : Nat) = 5 from e) (by decide)
  · obtain ⟨f', p⟩ := kd 3 f h
    rcases p with ⟨e, _⟩ | ⟨e, _⟩ | ⟨_, _, p⟩ | ⟨e, _⟩ | ⟨e, _⟩
    · exact absurd (show (3 : Nat) = 1 from e) (by decide)
    · exact absurd (show (3 : Nat) = 2 from e) (by decide)
    · obtain ⟨_, q2, q3, q4, _⟩ := RHh.2.2.2.1.2.2.2 f' f p
      obtain ⟨fr, F1⟩ := RHh.2.2.2.1.1
      have M1 : sF μ 52 ≤ 12000 := RHh.2.2.2.1.2.1.2.2.2
      obtain ⟨m1, m2, m3, m4, m5, m6, m7⟩ := CX_mem F1 (List.mem_map.mpr ⟨_, p, rfl⟩)
      have n1 : sI σ 224 f' ≤ 12000 := fj_5 m3 m4 m5 m6 m7
      rcases q4 with ⟨_, b0, kk⟩ | ⟨_, c, d, cd, e1, e2⟩
      · rw [hK _ _ _ kk]
        exact ⟨hK2 _ _ _ kk, m4, n1, fun k k0 k1 => shm_3 q2.1 q2.2 m4 n1 q3 M1 k0 k1⟩
      · have pc := P.2.2.2.2.2 c d cd
        have nd := neg_c pc.2.1 (Int32.lt_trans pc.2.2 (by decide))
        rw [e2] at h45
        exact absurd nd.1 (Int32.not_lt.mpr h45)
    · exact absurd (show (3 : Nat) = 4 from e) (by decide)
    · exact absurd (show (3 : Nat) = 5 from e) (by decide)
  · obtain ⟨c, p⟩ := kd 5 d h
    rcases p with ⟨e, _⟩ | ⟨e, _⟩ | ⟨e, _⟩ | ⟨e, _⟩ | ⟨_, _, p⟩
    · exact absurd (show (5 : Nat) = 1 from e) (by decide)
    · exact absurd (show (5 : Nat) = 2 from e) (by decide)
    · exact absurd (show (5 : Nat) = 3 from e) (by decide)
    · exact absurd (show (5 : Nat) = 4 from e) (by decide)
    · obtain ⟨a1, a2, a3, a4, a5⟩ := C.1 _ _ p
      have pc := P.2.2.2.2.2 _ _ p
      have ck := a5.resolve_left (by simp)
      have a2' : sI σ 323 c = sI μ 156 d := a2
      rcases ck with ⟨b1, _⟩ | ⟨_, _, _, b4, _, b6, b7⟩ | ⟨b1, b2, b3, _⟩
      · have b1' : sI σ 323 c = 3 := b1
        rw [← a2', b1'] at h156
        exact absurd h156 (by decide)
      · have b6' : sI μ 166 d = 0 := b6
        have b7' : sI μ 164 d = 0 := b7
        rw [b6', b7']
        exact ⟨⟨by decide, by decide, fun k k0 k1 => absurd (Int32.lt_of_le_of_lt k0 k1) Int32.lt_irrefl⟩, by decide, by decide, fun k k0 k1 => absurd (Int32.lt_of_le_of_lt k0 k1) Int32.lt_irrefl⟩
      · obtain ⟨k1, k2, k3, _⟩ := C.2.2.2.2.2
        obtain ⟨l1, l2, l3, l4, l5, l6⟩ := k3 d ⟨pc.2.1, pc.2.2, a4, h156, b3⟩
        refine ⟨⟨l1, l2, fun k k0 kk => ?_⟩, l3, l4, fun k k0 kk => ?_⟩
        · obtain ⟨m1, m2, m3⟩ := l5 (Int32.lt_of_le_of_lt k0 kk)
          exact shm_1 m1 m2 l2 m3 k1.2 k0 kk
        · obtain ⟨m1, m2, m3⟩ := l6 (Int32.lt_of_le_of_lt k0 kk)
          exact shm_2 m1 m2 l4 m3 k2.2 k0 kk
