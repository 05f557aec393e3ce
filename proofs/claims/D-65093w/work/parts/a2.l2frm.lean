/-! LAYER 2: calls that are open: registers and pile -/
def xt (σ : mS) (f r : Int32) : Int32 := sI σ 364 (sI σ 347 f + r)
def xv (σ : mS) (f r : Int32) : Int64 := sJ σ 365 (sI σ 347 f + r)
/-- the registers from r on, n of them -/
def rng (r : Int32) (n : Int32) : List Int32 := (List.range n.toNatClampNeg).map (fun k => r + Int32.ofNat k)
theorem rng_len {r n : Int32} : (rng r n).length = n.toNatClampNeg := by simp only [rng, List.length_map, List.length_range]
theorem rng_0 {r : Int32} : rng r 0 = [] := rfl
theorem rng_s {r n : Int32} (h : 0 ≤ n) (h1 : n < 2147483647) : rng r (n + 1) = rng r n ++ [r + n] := by
  have e : (n + 1).toNatClampNeg = n.toNatClampNeg + 1 := by
    have := toNat_add h (show (0 : Int32) ≤ 1 by decide) (by lia)
    exact this
  have e2 : Int32.ofNat n.toNatClampNeg = n := by
    rw [tI_eq, tI_cl, tI_lit (by have := tI_rng n; omega)]
    rw [tI_le] at h
    have z : (0 : Int32).toInt = 0 := rfl
    omega
  simp only [rng, e, List.range_succ, List.map_append, List.map_cons, List.map_nil, e2]
theorem rng_1 {r : Int32} : rng r 1 = [r] := by
  have := rng_s (r := r) (n := 0) (by decide) (by decide)
  rw [rng_0] at this
  have e : r + 0 = r := by lia
  rw [e] at this
  exact this
/-- which register a number of a row means: from -2 downwards they mean boxes, from -10000 downwards registers that hold nil, the place being gone, from -20000 downwards tables, from -30000 downwards numbers, from -40000 downwards numbers that aren't 0 -/
def dc (x : Int32) : Int32 := if x ≤ -40000 then -40000 - x else if x ≤ -30000 then -30000 - x else if x ≤ -20000 then -20000 - x else if x ≤ -10000 then -10000 - x else if x ≤ -2 then -2 - x else x
theorem dc_p {x : Int32} (h : 0 ≤ x) : dc x = x := by
  simp only [dc]
  rw [if_neg (by lia), if_neg (by lia), if_neg (by lia), if_neg (by lia), if_neg (by lia)]
theorem dc_n {x : Int32} (h : x ≤ -2) (h' : -10000 < x) : dc x = -2 - x := by
  simp only [dc]
  rw [if_neg (by lia), if_neg (by lia), if_neg (by lia), if_neg (by lia), if_pos h]
theorem dc_g {x : Int32} (h : x ≤ -10000) (h' : -20000 < x) : dc x = -10000 - x := by
  simp only [dc]
  rw [if_neg (by lia), if_neg (by lia), if_neg (by lia), if_pos h]
theorem dc_t {x : Int32} (h : x ≤ -20000) (h' : -30000 < x) : dc x = -20000 - x := by
  simp only [dc]
  rw [if_neg (by lia), if_neg (by lia), if_pos h]
theorem dc_u {x : Int32} (h : x ≤ -30000) (h' : -40000 < x) : dc x = -30000 - x := by
  simp only [dc]
  rw [if_neg (by lia), if_pos h]
theorem dc_z {x : Int32} (h : x ≤ -40000) : dc x = -40000 - x := by
  simp only [dc]
  rw [if_pos h]
theorem dc_0 {x : Int32} (h : x ≤ -2) : 0 ≤ dc x := by
  simp only [dc]
  split
  · lia
  · split
    · lia
    · split
      · lia
      · split
        · lia
        · lia
theorem dc_b {r : Int32} (h : 0 ≤ r) (h1 : r ≤ 9000) : dc (-2 - r) = r := by
  rw [dc_n (by lia) (by lia)]; lia
theorem dc_h {r : Int32} (h : 0 ≤ r) (h1 : r ≤ 9000) : dc (-10000 - r) = r := by
  rw [dc_g (by lia) (by lia)]; lia
theorem dc_tb {r : Int32} (h : 0 ≤ r) (h1 : r ≤ 9000) : dc (-20000 - r) = r := by
  rw [dc_t (by lia) (by lia)]; lia
theorem dc_nu {r : Int32} (h : 0 ≤ r) (h1 : r ≤ 9000) : dc (-30000 - r) = r := by
  rw [dc_u (by lia) (by lia)]; lia
theorem dc_nz {r : Int32} (h : 0 ≤ r) (h1 : r ≤ 9000) : dc (-40000 - r) = r := by
  rw [dc_z (by lia)]; lia
/-- one value of a call: in a register, or gone, or in a box that is in a register -/
def RV (w : WD) (σ : mS) (f x tm : Int32) (vm : Int64) : Prop := (x = -1 ∧ tm = 0) ∨ (0 ≤ x ∧ VV w (xt σ f x) (xv σ f x) tm vm) ∨ (x ≤ -2 ∧ xt σ f (dc x) = 8 ∧ tm = 7 ∧ ∃ a b, xv σ f (dc x) = Int32.toInt64 a ∧ vm = Int32.toInt64 b ∧ (a, b) ∈ wB w ∧ -10000 < x) ∨ (x ≤ -10000 ∧ tm = 0 ∧ xt σ f (dc x) = 0 ∧ -20000 < x) ∨ (x ≤ -20000 ∧ VV w (xt σ f (dc x)) (xv σ f (dc x)) tm vm ∧ ((x ≤ -30000 ∧ tm = 2 ∧ (x ≤ -40000 → vm ≠ 0)) ∨ (-30000 < x ∧ tm = 4)))
/-- values of a call: their registers, and where they lie on the pile -/
def RG (w : WD) (σ : mS) (f : Int32) (pt : Int32 → Int32) (pv : Int32 → Int64) : Int32 → List Int32 → Prop
  | _, [] => True
  | B, x :: ρ => RV w σ f x (pt B) (pv B) ∧ RG w σ f pt pv (B + 1) ρ
theorem oN_cs {B : Int32} {n : Nat} : B + 1 + Int32.ofNat n = B + Int32.ofNat (n + 1) := by rw [← oN_s]; lia
theorem RG_app {w : WD} {σ : mS} {f : Int32} {pt : Int32 → Int32} {pv : Int32 → Int64} : ∀ {a b : List Int32} {B : Int32}, RG w σ f pt pv B (a ++ b) ↔ RG w σ f pt pv B a ∧ RG w σ f pt pv (B + Int32.ofNat a.length) b
  | [], b, B => by
    have e : B + Int32.ofNat ([] : List Int32).length = B := by simp only [List.length_nil]; show B + 0 = B; lia
    rw [e]; exact ⟨fun h => ⟨trivial, h⟩, fun h => h.2⟩
  | x :: a, b, B => by
    show (_ ∧ RG w σ f pt pv (B + 1) (a ++ b)) ↔ (_ ∧ RG w σ f pt pv (B + 1) a) ∧ _
    rw [RG_app, oN_cs, List.length_cons]
    exact ⟨fun ⟨h1, h2, h3⟩ => ⟨⟨h1, h2⟩, h3⟩, fun ⟨⟨h1, h2⟩, h3⟩ => ⟨h1, h2, h3⟩⟩
theorem RG_at {w : WD} {σ : mS} {f : Int32} {pt : Int32 → Int32} {pv : Int32 → Int64} : ∀ {ρ : List Int32} {B : Int32} {j : Nat}, RG w σ f pt pv B ρ → j < ρ.length → RV w σ f (ρ.getD j 0) (pt (B + Int32.ofNat j)) (pv (B + Int32.ofNat j))
  | [], _, _, _, h => absurd h (by simp)
  | x :: ρ, B, 0, h, _ => by
    have e : B + Int32.ofNat 0 = B := by show B + 0 = B; lia
    rw [e]; exact h.1
  | x :: ρ, B, j + 1, h, hj => by
    rw [← oN_cs]
    exact RG_at (ρ := ρ) (B := B + 1) (j := j) h.2 (by simpa using hj)
theorem RG_one {w : WD} {σ : mS} {f x : Int32} {pt : Int32 → Int32} {pv : Int32 → Int64} {B : Int32} : RG w σ f pt pv B [x] ↔ RV w σ f x (pt B) (pv B) := ⟨fun h => h.1, fun h => ⟨h, trivial⟩⟩
/-- it stays if these registers and this part of the pile do -/
theorem RG_cg {w w' : WD} {σ τ : mS} {f : Int32} {pt pt' : Int32 → Int32} {pv pv' : Int32 → Int64} : ∀ {ρ : List Int32} {B : Int32}, RG w σ f pt pv B ρ → wle w w' → (∀ x, x ∈ ρ → 0 ≤ dc x → xt τ f (dc x) = xt σ f (dc x) ∧ xv τ f (dc x) = xv σ f (dc x)) → (∀ j, j < ρ.length → pt' (B + Int32.ofNat j) = pt (B + Int32.ofNat j) ∧ pv' (B + Int32.ofNat j) = pv (B + Int32.ofNat j)) → RG w' τ f pt' pv' B ρ
  | [], _, _, _, _, _ => trivial
  | x :: ρ, B, h, wl, hr, hp => by
    have e : B + Int32.ofNat 0 = B := by show B + 0 = B; lia
    have p0 := hp 0 (by simp)
    rw [e] at p0
    refine ⟨?_, RG_cg h.2 wl (fun y hy => hr y (List.mem_cons_of_mem _ hy)) (fun j hj => by rw [oN_cs]; exact hp (j + 1) (by simpa using hj))⟩
    rcases h.1 with ⟨h1, h2⟩ | ⟨h1, h2⟩ | ⟨h1, h2, h3, a, b, h4, h5, h6, h7⟩ | ⟨h1, h2, h3, h4⟩ | ⟨h1, h2, h3⟩
    · exact .inl ⟨h1, by rw [p0.1]; exact h2⟩
    · obtain ⟨r1, r2⟩ := hr x List.mem_cons_self (by rw [dc_p h1]; exact h1)
      rw [dc_p h1] at r1 r2
      refine .inr (.inl ⟨h1, ?_⟩)
      rw [r1, r2, p0.1, p0.2]; exact VV_mono wl h2
    · obtain ⟨r1, r2⟩ := hr x List.mem_cons_self (dc_0 h1)
      refine .inr (.inr (.inl ⟨h1, by rw [r1]; exact h2, by rw [p0.1]; exact h3, a, b, by rw [r2]; exact h4, by rw [p0.2]; exact h5, wl.2.2.2.2.1 _ h6, h7⟩))
    · obtain ⟨r1, r2⟩ := hr x List.mem_cons_self (dc_0 (Int32.le_trans h1 (by decide)))
      exact .inr (.inr (.inr (.inl ⟨h1, by rw [p0.1]; exact h2, by rw [r1]; exact h3, h4⟩)))
    · obtain ⟨r1, r2⟩ := hr x List.mem_cons_self (dc_0 (Int32.le_trans h1 (by decide)))
      refine .inr (.inr (.inr (.inr ⟨h1, ?_, by rw [p0.1, p0.2]; exact h3⟩)))
      rw [r1, r2, p0.1, p0.2]; exact VV_mono wl h2
/-- where what a call gives goes: mode, register, how many; place, how many, what is done -/
abbrev CT : Type := Int32 × Int32 × Int32 × Int32 × Int32 × Int32
abbrev SR : Type := Int32 → Int32 → Int32 → List Int32 → Int32 → Prop
/-- registers that are written: in range, and none of these is held -/
def okr (ρ : List Int32) (rg n R : Int32) : Prop := 0 ≤ rg ∧ rg ≤ 2500 ∧ 0 ≤ n ∧ n ≤ 2500 ∧ rg + n ≤ R ∧ ∀ x, x ∈ ρ → dc x < rg ∨ rg + n ≤ dc x
/-- what is come to when it is given -/
def ctS (S : SR) (R g p q : Int32) (ρ : List Int32) (md rg wt wn th : Int32) : Prop :=
  (th = 0 ∧ md = 0 ∧ wn = wt ∧ 0 ≤ wt ∧ okr ρ rg wt R ∧ S g p q (ρ ++ rng rg wt) (-1)) ∨ (th = 0 ∧ md = 0 ∧ wt = -1 ∧ wn = -1 ∧ okr ρ rg 100 R ∧ S g p q ρ rg) ∨ (th = 0 ∧ md = 1 ∧ wn = 1 ∧ okr ρ rg 1 R ∧ S g p q (ρ ++ [rg]) (-1)) ∨ (th = 0 ∧ md = 3 ∧ wn = 0 ∧ S g p q ρ (-1)) ∨ (th = 1 ∧ md = 2 ∧ okr ρ rg 1 R ∧ S g p q (ρ ++ [rg]) (-1)) ∨ (th = 2 ∧ md = 2 ∧ okr ρ rg 1 R ∧ S g p q (ρ ++ [rg]) (-2))
/-- a call of a script's function, and its values -/
def FC (w : WD) (σ : mS) (ff : Int32 → Nat → Int32) (pt : Int32 → Int32) (pv : Int32 → Int64) (f k : Int32) (ρ : List Int32) : Prop :=
  (0 ≤ f ∧ f < 202) ∧ sI σ 355 f = 0 ∧ ff k 0 = 0 ∧ (sI σ 343 f, ff k 1) ∈ wF w ∧ sI σ 344 f = sI σ 222 (sI σ 343 f) ∧ (0 ≤ sI σ 344 f ∧ sI σ 344 f < 5400) ∧ (sI σ 348 f = ff k 4 ∧ 0 ≤ ff k 4 ∧ ff k 4 ≤ 100) ∧ ff k 3 = ff k 5 + 1 + ff k 4 ∧ (sI σ 349 f = sI σ 261 (sI σ 344 f) + ff k 4 ∧ 0 < sI σ 261 (sI σ 344 f) ∧ sI σ 261 (sI σ 344 f) ≤ 2500) ∧ RG w σ f pt pv (ff k 3) ρ ∧ RG w σ f pt pv (ff k 5 + 1) (rng (sI σ 261 (sI σ 344 f)) (ff k 4)) ∧ pt (ff k 5) = 5 ∧ pv (ff k 5) = Int32.toInt64 (ff k 1)
/-- the line of a call of a script's function -/
def LE (σ : mS) (ff : Int32 → Nat → Int32) (f k : Int32) : Prop := 0 ≤ sI σ 345 f ∧ sI σ 345 f < 340000 ∧ sI σ 257 (sI σ 345 f) = ff k 8 ∧ 0 ≤ ff k 8
/-- what of the registers is held -/
def LV (σ : mS) (f : Int32) (ρ : List Int32) : Prop := (∀ x, x ∈ ρ → dc x < sI σ 353 f) ∧ sI σ 353 f ≤ sI σ 349 f ∧ ∀ r, 0 ≤ r → r < sI σ 353 f → r ∈ ρ.map dc ∨ xt σ f r = 0
/-- a call of a script's function that waits for what another one gives -/
def SW (S : SR) (w : WD) (σ : mS) (ff : Int32 → Nat → Int32) (pt : Int32 → Int32) (pv : Int32 → Int64) (f k : Int32) (ct : CT) : Prop :=
  ∃ ρ, FC w σ ff pt pv f k ρ ∧ ct.2.2.2.1 = ff k 3 + Int32.ofNat ρ.length ∧ ρ.length ≤ 2000 ∧ LE σ ff f k ∧ ctS S (sI σ 261 (sI σ 344 f)) (sI σ 344 f) (sI σ 346 f) (ff k 2) ρ ct.1 ct.2.1 ct.2.2.1 ct.2.2.2.2.1 ct.2.2.2.2.2 ∧ LV σ f ρ
/-- a guard -/
def SG (σ : mS) (ff : Int32 → Nat → Int32) (pt : Int32 → Int32) (pv : Int32 → Int64) (f k : Int32) (ct : CT) : Prop := (0 ≤ f ∧ f < 202) ∧ sI σ 355 f = 1 ∧ sI σ 349 f = 0 ∧ ff k 0 = 1 ∧ ct.2.2.2.1 = ff k 5 + 1 ∧ ct.2.2.2.2.1 = -1 ∧ ct.2.2.2.2.2 = 3 ∧ pt (ff k 5) = 5 ∧ ∃ o : Int32, 0 ≤ o ∧ o < 46 ∧ pv (ff k 5) = Int32.toInt64 o
def ctO (σ : mS) (ff : Int32 → Nat → Int32) (f k : Int32) : CT := (sI σ 350 f, sI σ 351 f, sI σ 352 f, ff k 5, ff k 6, ff k 7)
/-- the calls of a coroutine below one that gives: the last one first -/
def FL (S : SR) (w : WD) (σ : mS) (ff : Int32 → Nat → Int32) (pt : Int32 → Int32) (pv : Int32 → Int64) (bt k0 B0 : Int32) : List Int32 → Int32 → CT → Prop
  | [], n, ct => n = k0 ∧ ct.2.2.2.1 = B0 ∧ ct.2.2.2.2.1 = -1 ∧ ct.2.2.2.2.2 = bt
  | f :: fl, n, ct => k0 < n ∧ (B0 ≤ ff (n - 1) 5 ∧ ff (n - 1) 5 ≤ B0 + 2300 * (n - 1 - k0)) ∧ (SG σ ff pt pv f (n - 1) ct ∨ SW S w σ ff pt pv f (n - 1) ct) ∧ FL S w σ ff pt pv bt k0 B0 fl (n - 1) (ctO σ ff f (n - 1))
/-- kinds and lines alone -/
def LK (σ : mS) (ff : Int32 → Nat → Int32) (k0 : Int32) : List Int32 → Int32 → Prop
  | [], n => n = k0
  | f :: fl, n => k0 < n ∧ (0 ≤ f ∧ f < 202) ∧ ((sI σ 355 f = 1 ∧ ff (n - 1) 0 = 1) ∨ (sI σ 355 f = 0 ∧ ff (n - 1) 0 = 0 ∧ LE σ ff f (n - 1))) ∧ LK σ ff k0 fl (n - 1)
theorem FL_LK {S : SR} {w : WD} {σ : mS} {ff : Int32 → Nat → Int32} {pt : Int32 → Int32} {pv : Int32 → Int64} {bt k0 B0 : Int32} : ∀ {fl : List Int32} {n : Int32} {ct : CT}, FL S w σ ff pt pv bt k0 B0 fl n ct → LK σ ff k0 fl n
  | [], _, _, h => h.1
  | f :: fl, n, ct, h => by
    obtain ⟨h1, h2, h3, h4⟩ := h
    refine ⟨h1, ?_, ?_, FL_LK h4⟩
    · rcases h3 with h3 | ⟨ρ, h3, _⟩
      · exact h3.1
      · exact h3.1
    · rcases h3 with h3 | ⟨ρ, h3, _, _, h5, _⟩
      · exact .inl ⟨h3.2.1, h3.2.2.2.1⟩
      · exact .inr ⟨h3.2.1, h3.2.2.1, h5⟩
/-- what an error finds: calls that are broken off, then a guard -/
def UN (S : SR) (w : WD) (σ : mS) (ff : Int32 → Nat → Int32) (pt : Int32 → Int32) (pv : Int32 → Int64) (bt k0 B0 : Int32) : List Int32 → Int32 → Prop
  | [], n => n = k0
  | f :: fl, n => k0 < n ∧ (0 ≤ f ∧ f < 202) ∧ ((sI σ 355 f = 0 ∧ ff (n - 1) 0 = 0 ∧ UN S w σ ff pt pv bt k0 B0 fl (n - 1)) ∨ (sI σ 355 f = 1 ∧ sI σ 349 f = 0 ∧ ff (n - 1) 0 = 1 ∧ (B0 ≤ ff (n - 1) 5 ∧ ff (n - 1) 5 ≤ B0 + 2300 * (n - 1 - k0)) ∧ FL S w σ ff pt pv bt k0 B0 fl (n - 1) (ctO σ ff f (n - 1))))
theorem FL_UN {S : SR} {w : WD} {σ : mS} {ff : Int32 → Nat → Int32} {pt : Int32 → Int32} {pv : Int32 → Int64} {bt k0 B0 : Int32} : ∀ {fl : List Int32} {n : Int32} {ct : CT}, FL S w σ ff pt pv bt k0 B0 fl n ct → UN S w σ ff pt pv bt k0 B0 fl n
  | [], _, _, h => h.1
  | f :: fl, n, ct, h => by
    obtain ⟨h1, h2, h3, h4⟩ := h
    rcases h3 with h3 | ⟨ρ, h3, _⟩
    · exact ⟨h1, h3.1, .inr ⟨h3.2.1, h3.2.2.1, h3.2.2.2.1, h2, h4⟩⟩
    · exact ⟨h1, h3.1, .inl ⟨h3.2.1, h3.2.2.1, FL_UN h4⟩⟩
/-- the reference's calls in their rows -/
def mff (μ : mS) (k : Int32) (j : Nat) : Int32 := sI μ (144 + j) k
/-- the line at hand -/
def lnH (σ : mS) : List Int32 → Int32
  | [] => 0
  | f :: fl => if sI σ 355 f = 0 then sI σ 257 (sI σ 345 f) else lnH σ fl
theorem lah_lp {N : Nat} {σ : mS} {ff : Int32 → Nat → Int32} {k0 : Int32} : ∀ (fl : List Int32) (h n : Int32) (k : Nat), LK σ ff k0 fl n → seg (sI σ 356) h fl (-1) → fl.length < k → xx6_lineAtHand_b16 N k h σ = some (lnH σ fl, σ) := by
  intro fl
  induction fl with
  | nil =>
    intro h n k _ hs hk
    obtain ⟨k, rfl⟩ : ∃ j, k = j + 1 := ⟨k - 1, by simp at hk; omega⟩
    have : h = -1 := hs
    subst this
    simp (disch := decide) only [xx6_lineAtHand_b16, xx6_lineAtHand_b46, xx6_lineAtHand_b72, if_pos, lnH]
  | cons f fl ih =>
    intro h n k hl hs hk
    obtain ⟨k, rfl⟩ : ∃ j, k = j + 1 := ⟨k - 1, by simp at hk; omega⟩
    obtain ⟨rfl, hs⟩ := hs
    obtain ⟨l1, l2, l3, l4⟩ := hl
    obtain ⟨f0, f1⟩ := l2
    rcases l3 with ⟨a1, a2⟩ | ⟨a1, a2, a3⟩
    · simp (disch := lia) only [xx6_lineAtHand_b16, lnH, lt, gd_in, if_pos, if_neg, ↓reduceIte, gd_z0, gd_z1, gd_tt, sF_fold, sG_fold, sI_fold, sJ_fold]
      exact ih _ (n - 1) k l4 hs (by simp at hk; omega)
    · obtain ⟨b1, b2, b3⟩ := a3
      simp (disch := lia) only [xx6_lineAtHand_b16, xx6_lineAtHand_b46, xx6_lineAtHand_b72, lnH, lt, gd_in, if_pos, if_neg, ↓reduceIte, gd_z0, gd_z1, gd_tt, sF_fold, sG_fold, sI_fold, sJ_fold]
theorem lah_x {N : Nat} (hN : BIG ≤ N) {σ : mS} {ff : Int32 → Nat → Int32} {k0 n : Int32} {fl : List Int32} (c0 : 0 ≤ sF σ 339) (c1 : sF σ 339 < 121) (hl : LK σ ff k0 fl n) (hs : seg (sI σ 356) (sI σ 326 (sF σ 339)) fl (-1)) (h2 : fl.length ≤ 202) : xx6_lineAtHand N σ = some (lnH σ fl, σ) := by
  have := lah_lp (N := N) fl _ n N hl hs (by simp only [BIG] at hN; omega)
  simp (disch := lia) only [xx6_lineAtHand, lt, gd_in, if_pos, if_neg, ↓reduceIte, gd_z0, gd_z1, gd_tt, sF_fold, sG_fold, sI_fold, sJ_fold]
  exact this
theorem mlb_lp {N : Nat} {σ μ : mS} : ∀ (fl : List Int32) (n : Int32) (k : Nat), LK σ (mff μ) (sI μ 162 (sF μ 172)) fl n → 0 ≤ sI μ 162 (sF μ 172) → n ≤ 255 → 0 ≤ sF μ 172 → sF μ 172 < 121 → fl.length < k → mm_lineBelow_9 N k 0 (n - 1) μ = some (lnH σ fl, μ) := by
  intro fl
  induction fl with
  | nil =>
    intro n k hl h0 h1 r0 r1 hk
    obtain ⟨k, rfl⟩ : ∃ j, k = j + 1 := ⟨k - 1, by simp at hk; omega⟩
    have e : n = sI μ 162 (sF μ 172) := hl
    simp (disch := lia) only [mm_lineBelow_9, lnH, lt, gd_in, if_pos, if_neg, ↓reduceIte, gd_z0, gd_z1, gd_tt, sF_fold, sG_fold, sI_fold, sJ_fold]
  | cons f fl ih =>
    intro n k hl h0 h1 r0 r1 hk
    obtain ⟨k, rfl⟩ : ∃ j, k = j + 1 := ⟨k - 1, by simp at hk; omega⟩
    obtain ⟨l1, l2, l3, l4⟩ := hl
    have e := ih (n - 1) k l4 h0 (by lia) r0 r1 (by simp at hk; omega)
    rcases l3 with ⟨a1, a2⟩ | ⟨a1, a2, a3⟩
    · have a2' : sI μ 144 (n - 1) = 1 := a2
      have e2 : n - 1 + -1 = n - 1 - 1 := by lia
      simp (disch := lia) only [mm_lineBelow_9, mm_lineBelow_45, lnH, lt, gd_in, if_pos, if_neg, ↓reduceIte, gd_z0, gd_z1, gd_tt, sF_fold, sG_fold, sI_fold, sJ_fold, e2]
      exact e
    · obtain ⟨b1, b2, b3, b4⟩ := a3
      have a2' : sI μ 144 (n - 1) = 0 := a2
      have b3' : sI σ 257 (sI σ 345 f) = sI μ 152 (n - 1) := b3
      simp (disch := lia) only [mm_lineBelow_9, lnH, lt, gd_in, if_pos, if_neg, ↓reduceIte, gd_z0, gd_z1, gd_tt, sF_fold, sG_fold, sI_fold, sJ_fold, b3']
theorem lah_m {N : Nat} (hN : BIG ≤ N) {σ μ : mS} {fl : List Int32} (hl : LK σ (mff μ) (sI μ 162 (sF μ 172)) fl (sF μ 154)) (h0 : 0 ≤ sI μ 162 (sF μ 172)) (h1 : sF μ 154 ≤ 255) (r0 : 0 ≤ sF μ 172) (r1 : sF μ 172 < 121) (h2 : fl.length ≤ 202) : mm_lineAtHand N μ = some (lnH σ fl, μ) := by
  have := mlb_lp (N := N) fl _ N hl h0 h1 r0 r1 (by simp only [BIG] at hN; omega)
  simp only [mm_lineAtHand, mm_lineBelow, lt, sF_fold, this, bd]
