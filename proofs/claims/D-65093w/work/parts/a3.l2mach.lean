/-! LAYER 2: the machines: what stays -/
theorem oN_bd {n : Nat} (h : n ≤ 2000) : 0 ≤ Int32.ofNat n ∧ Int32.ofNat n ≤ 2000 := ⟨oN_nn (by omega), by rw [show (2000 : Int32) = Int32.ofNat 2000 from rfl, oN_le (by omega) (by omega)]; exact h⟩
theorem oN_lt2 {j n : Nat} (hj : j < n) (h : n ≤ 2000) : 0 ≤ Int32.ofNat j ∧ Int32.ofNat j < Int32.ofNat n := ⟨oN_nn (by omega), by rw [oN_lt (by omega) (by omega)]; exact hj⟩
theorem rng_mem {r n x : Int32} (h : x ∈ rng r n) : ∃ i, 0 ≤ i ∧ i < n ∧ x = r + i := by
  simp only [rng, List.mem_map, List.mem_range] at h
  obtain ⟨k, h1, h2⟩ := h
  have := cl_lt h1
  exact ⟨Int32.ofNat k, this.1, this.2, h2.symm⟩
theorem rng_in {r n i : Int32} (h0 : 0 ≤ i) (h1 : i < n) : r + i ∈ rng r n := by
  simp only [rng, List.mem_map, List.mem_range]
  have e : Int32.ofNat i.toNatClampNeg = i := by
    rw [tI_eq, tI_cl, tI_lit (by have := tI_rng i; omega)]
    rw [tI_le] at h0
    have z : (0 : Int32).toInt = 0 := rfl
    omega
  refine ⟨i.toNatClampNeg, ?_, by rw [e]⟩
  rw [tI_lt] at h1
  rw [tI_le] at h0
  have z : (0 : Int32).toInt = 0 := rfl
  rw [tI_cl, tI_cl]
  omega
/-- one call stays as it is on the system's side -/
def xcs (σ τ : mS) (f : Int32) : Prop := (∀ k, (343 ≤ k ∧ k ≤ 346) ∨ (348 ≤ k ∧ k ≤ 355) → sI τ k f = sI σ k f) ∧ (∀ x, 0 ≤ x → x < sI σ 349 f → xt τ f x = xt σ f x ∧ xv τ f x = xv σ f x)
theorem xcs_rfl {σ : mS} {f : Int32} : xcs σ σ f := ⟨fun _ _ => rfl, fun _ _ _ => ⟨rfl, rfl⟩⟩
/-- code stays -/
def cds (w : WD) (σ τ : mS) : Prop := (∀ m, sI τ 257 m = sI σ 257 m) ∧ (∀ m, sI τ 261 m = sI σ 261 m) ∧ ∀ a b, (a, b) ∈ wF w → sI τ 222 a = sI σ 222 a
theorem SW_cg {S : SR} {w w' : WD} {σ τ : mS} {ff ff' : Int32 → Nat → Int32} {pt pt' : Int32 → Int32} {pv pv' : Int32 → Int64} {f k B0 : Int32} {ct : CT} (h : SW S w σ ff pt pv f k ct) (wl : wle w w') (hx : xcs σ τ f) (hc : cds w σ τ) (hf : ∀ j, j < 10 → ff' k j = ff k j) (b0 : 0 ≤ ff k 5) (b1 : ff k 5 ≤ 2000000) (hB : B0 ≤ ff k 5) (hp : ∀ i, B0 ≤ i → i < ct.2.2.2.1 → pt' i = pt i ∧ pv' i = pv i) : SW S w' τ ff' pt' pv' f k ct := by
  obtain ⟨ρ, ⟨c1, c2, c3, c4, c5, c6, c7, c8, c9, c10, c11, c12, c13⟩, h2, h3, h4, h5, h6⟩ := h
  obtain ⟨x1, x2⟩ := hx
  obtain ⟨d1, d2, d3⟩ := hc
  have e343 := x1 343 (by omega)
  have e344 := x1 344 (by omega)
  have e345 := x1 345 (by omega)
  have e346 := x1 346 (by omega)
  have e348 := x1 348 (by omega)
  have e349 := x1 349 (by omega)
  have e353 := x1 353 (by omega)
  have e355 := x1 355 (by omega)
  have f0 := hf 0 (by omega)
  have f1 := hf 1 (by omega)
  have f2 := hf 2 (by omega)
  have f3 := hf 3 (by omega)
  have f4 := hf 4 (by omega)
  have f5 := hf 5 (by omega)
  have f8 := hf 8 (by omega)
  have lb := oN_bd h3
  obtain ⟨v1, v2, v3⟩ := h6
  have r4 := c7.2
  have rgs : ∀ x, x ∈ rng (sI σ 261 (sI σ 344 f)) (ff k 4) → 0 ≤ dc x → xt τ f (dc x) = xt σ f (dc x) ∧ xv τ f (dc x) = xv σ f (dc x) := fun x hx0 hx1 => by
    obtain ⟨i, i0, i1, rfl⟩ := rng_mem hx0
    rw [dc_p (by have := c9.2; lia)]
    exact x2 _ (by have := c9.2; lia) (by rw [c9.1]; have := c9.2; lia)
  refine ⟨ρ, ⟨c1, by rw [e355]; exact c2, by rw [f0]; exact c3, ?_, ?_, by rw [e344]; exact c6, by rw [e348, f4]; exact c7, by rw [f3, f5, f4]; exact c8, by rw [e349, e344, d2, f4]; exact c9, ?_, ?_, ?_, ?_⟩, by rw [f3]; exact h2, h3, ?_, ?_, ?_⟩
  · rw [e343, f1]; exact wl.2.2.2.1 _ c4
  · rw [e344, e343, d3 _ _ c4]; exact c5
  · rw [f3]
    refine RG_cg c10 wl (fun x hx hx0 => x2 (dc x) hx0 (by have := v1 x hx; lia)) (fun j hj => ?_)
    have lj := oN_lt2 hj h3
    exact hp _ (by lia) (by lia)
  · rw [f5, e344, d2, f4]
    refine RG_cg c11 wl rgs (fun j hj => ?_)
    rw [rng_len] at hj
    have lj := cl_lt hj
    exact hp _ (by lia) (by lia)
  · rw [f5, (hp _ hB (by lia)).1]; exact c12
  · rw [f5, f1, (hp _ hB (by lia)).2]; exact c13
  · obtain ⟨l1, l2, l3, l4⟩ := h4
    simp only [LE]
    rw [e345, d1, f8]; exact ⟨l1, l2, l3, l4⟩
  · rw [e344, d2, e346, f2]; exact h5
  · refine ⟨by rw [e353]; exact v1, by rw [e353, e349]; exact v2, fun r r0 r1 => ?_⟩
    rw [e353] at r1
    rw [(x2 r r0 (by lia)).1]; exact v3 r r0 r1
/-- bounds of a coroutine's calls -/
def kb (k0 B0 n : Int32) : Prop := 0 ≤ k0 ∧ n ≤ 256 ∧ 0 ≤ B0 ∧ B0 ≤ 600000
theorem FL_cg {S : SR} {w w' : WD} {σ τ : mS} {ff ff' : Int32 → Nat → Int32} {pt pt' : Int32 → Int32} {pv pv' : Int32 → Int64} {bt k0 B0 : Int32} : ∀ {fl : List Int32} {n : Int32} {ct : CT}, FL S w σ ff pt pv bt k0 B0 fl n ct → kb k0 B0 n → wle w w' → (∀ f, f ∈ fl → xcs σ τ f) → cds w σ τ → (∀ k j, k0 ≤ k → k < n → j < 10 → ff' k j = ff k j) → (∀ i, B0 ≤ i → i < ct.2.2.2.1 → pt' i = pt i ∧ pv' i = pv i) → FL S w' τ ff' pt' pv' bt k0 B0 fl n ct
  | [], _, _, h, _, _, _, _, _, _ => h
  | f :: fl, n, ct, h, hk, wl, hx, hc, hf, hp => by
    obtain ⟨h1, ⟨h2, h2'⟩, h3, h4⟩ := h
    obtain ⟨k1, k2, k3, k4⟩ := hk
    have hx0 := hx f List.mem_cons_self
    have hf0 : ∀ j, j < 10 → ff' (n - 1) j = ff (n - 1) j := fun j hj => hf (n - 1) j (by lia) (by lia) hj
    have lim : ff (n - 1) 5 < ct.2.2.2.1 := by
      rcases h3 with ⟨_, _, _, _, q, _⟩ | ⟨ρ, ⟨_, _, _, _, _, _, c7, c8, _⟩, q, q2, _⟩
      · rw [q]; lia
      · have lb := oN_bd q2
        obtain ⟨_, c7a, c7b⟩ := c7
        rw [q]; lia
    have e350 := hx0.1 350 (by omega)
    have e351 := hx0.1 351 (by omega)
    have e352 := hx0.1 352 (by omega)
    have ec : ctO τ ff' f (n - 1) = ctO σ ff f (n - 1) := by
      simp only [ctO, e350, e351, e352, hf0 5 (by omega), hf0 6 (by omega), hf0 7 (by omega)]
    refine ⟨h1, ?_, ?_, ?_⟩
    · rw [hf0 5 (by omega)]; exact ⟨h2, h2'⟩
    · rcases h3 with ⟨a1, a2, a3, a4, a5, a6, a7, a8, a9⟩ | h3
      · left
        refine ⟨a1, ?_, ?_, ?_, ?_, a6, a7, ?_, ?_⟩
        · rw [hx0.1 355 (by omega)]; exact a2
        · rw [hx0.1 349 (by omega)]; exact a3
        · rw [hf0 0 (by omega)]; exact a4
        · rw [hf0 5 (by omega)]; exact a5
        · rw [hf0 5 (by omega), (hp _ h2 lim).1]; exact a8
        · rw [hf0 5 (by omega), (hp _ h2 lim).2]; exact a9
      · right
        exact SW_cg h3 wl hx0 hc hf0 (by lia) (by lia) h2 hp
    · rw [ec]
      exact FL_cg h4 ⟨k1, by lia, k3, k4⟩ wl (fun g hg => hx g (List.mem_cons_of_mem _ hg)) hc (fun k j a b c => hf k j a (by lia) c) (fun i i0 i1 => hp i i0 (by have i1' : i < ff (n - 1) 5 := i1; lia))
theorem UN_cg {S : SR} {w w' : WD} {σ τ : mS} {ff ff' : Int32 → Nat → Int32} {pt pt' : Int32 → Int32} {pv pv' : Int32 → Int64} {bt k0 B0 P : Int32} : ∀ {fl : List Int32} {n : Int32}, UN S w σ ff pt pv bt k0 B0 fl n → kb k0 B0 n → wle w w' → (∀ f, f ∈ fl → xcs σ τ f) → cds w σ τ → (∀ k j, k0 ≤ k → k < n → j < 10 → ff' k j = ff k j) → (∀ i, B0 ≤ i → i < P → pt' i = pt i ∧ pv' i = pv i) → (∀ k, k0 ≤ k → k < n → ff k 5 ≤ P) → UN S w' τ ff' pt' pv' bt k0 B0 fl n
  | [], _, h, _, _, _, _, _, _, _ => h
  | f :: fl, n, h, hk, wl, hx, hc, hf, hp, hP => by
    obtain ⟨h1, h2, h3⟩ := h
    obtain ⟨k1, k2, k3, k4⟩ := hk
    have hx0 := hx f List.mem_cons_self
    have hf0 : ∀ j, j < 10 → ff' (n - 1) j = ff (n - 1) j := fun j hj => hf (n - 1) j (by lia) (by lia) hj
    have e355 := hx0.1 355 (by omega)
    refine ⟨h1, h2, ?_⟩
    rcases h3 with ⟨a1, a2, a3⟩ | ⟨a1, a1', a2, a3, a4⟩
    · left
      exact ⟨by rw [e355]; exact a1, by rw [hf0 0 (by omega)]; exact a2, UN_cg a3 ⟨k1, by lia, k3, k4⟩ wl (fun g hg => hx g (List.mem_cons_of_mem _ hg)) hc (fun k j a b c => hf k j a (by lia) c) hp (fun k a b => hP k a (by lia))⟩
    · right
      have ec : ctO τ ff' f (n - 1) = ctO σ ff f (n - 1) := by
        simp only [ctO, hx0.1 350 (by omega), hx0.1 351 (by omega), hx0.1 352 (by omega), hf0 5 (by omega), hf0 6 (by omega), hf0 7 (by omega)]
      refine ⟨by rw [e355]; exact a1, by rw [hx0.1 349 (by omega)]; exact a1', by rw [hf0 0 (by omega)]; exact a2, by rw [hf0 5 (by omega)]; exact a3, ?_⟩
      rw [ec]
      exact FL_cg a4 ⟨k1, by lia, k3, k4⟩ wl (fun g hg => hx g (List.mem_cons_of_mem _ hg)) hc (fun k j a b c => hf k j a (by lia) c) (fun i i0 i1 => hp i i0 (by have i1' : i < ff (n - 1) 5 := i1; have := hP (n - 1) (by lia) (by lia); lia))
