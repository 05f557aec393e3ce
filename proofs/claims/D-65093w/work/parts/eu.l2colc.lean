/-! LAYER 2: the collectors: things on both sides -/
def PR (w : WD) (o o' : OB2) : Prop := (o.1 = 1 ∧ o'.1 = 1 ∧ (o.2, o'.2) ∈ wS w) ∨ (o.1 = 2 ∧ o'.1 = 2 ∧ (o.2, o'.2) ∈ wT w) ∨ (o.1 = 3 ∧ o'.1 = 3 ∧ (o.2, o'.2) ∈ wF w) ∨ (o.1 = 4 ∧ o'.1 = 4 ∧ (o.2, o'.2) ∈ wB w) ∨ (o.1 = 5 ∧ o'.1 = 5 ∧ (o.2, o'.2) ∈ wC w)
/-- what is known of pairs -/
def PRK (w : WD) : Prop := (∀ a b, (a, b) ∈ wS w → (0 ≤ a ∧ a < 12000) ∧ (30000 ≤ b ∧ b < 42000)) ∧ (∀ a b, (a, b) ∈ wX w → 12000 ≤ a ∧ b < 30000) ∧ (∀ a b, (a, b) ∈ wT w → (0 ≤ a ∧ a < 3000) ∧ (0 ≤ b ∧ b < 3000)) ∧ (∀ a b, (a, b) ∈ wF w → (0 ≤ a ∧ a < 4000) ∧ (64 ≤ b ∧ b < 4064)) ∧ (∀ a b, (a, b) ∈ wB w → (0 ≤ a ∧ a < 12000) ∧ (0 ≤ b ∧ b < 12000)) ∧ (∀ a b, (a, b) ∈ wC w → (0 < a ∧ a < 121) ∧ (0 ≤ b ∧ b < 120))
theorem PR_ok {w : WD} (P : PRK w) {o o' : OB2} (h : PR w o o') : okx o ∧ okm o' := by
  obtain ⟨p1, _, p2, p3, p4, p5⟩ := P
  rcases h with ⟨a, b, h⟩ | ⟨a, b, h⟩ | ⟨a, b, h⟩ | ⟨a, b, h⟩ | ⟨a, b, h⟩
  · have := p1 _ _ h; exact ⟨.inl ⟨a, this.1⟩, .inl ⟨b, this.2⟩⟩
  · have := p2 _ _ h; exact ⟨.inr (.inl ⟨a, this.1⟩), .inr (.inl ⟨b, this.2⟩)⟩
  · have := p3 _ _ h; exact ⟨.inr (.inr (.inl ⟨a, this.1⟩)), .inr (.inr (.inl ⟨b, this.2⟩))⟩
  · have := p4 _ _ h; exact ⟨.inr (.inr (.inr (.inl ⟨a, this.1⟩))), .inr (.inr (.inr (.inl ⟨b, this.2⟩)))⟩
  · have := p5 _ _ h; exact ⟨.inr (.inr (.inr (.inr ⟨a, this.1⟩))), .inr (.inr (.inr (.inr ⟨b, this.2⟩)))⟩
/-- what a value means on both sides -/
theorem VV_rf {w : WD} (P : PRK w) {tx tm : Int32} {vx vm : Int64} (v : VV w tx vx tm vm) : (∀ y, rfx tx vx y → ∃ y', rfm tm vm y' ∧ PR w y y') ∧ (∀ y', rfm tm vm y' → ∃ y, rfx tx vx y ∧ PR w y y') := by
  obtain ⟨p1, p0, p2, p3, p4, p5⟩ := P
  have nx : tx = 0 ∨ tx = 1 ∨ tx = 2 ∨ tx = 3 → ∀ y, ¬ rfx tx vx y := fun h y hy => by
    rcases rfx_n hy with e | e | e | e | e <;> rw [e] at h <;> exact absurd h (by decide)
  have nm : tm = 0 ∨ tm = 1 ∨ tm = 2 → ∀ y, ¬ rfm tm vm y := fun h y hy => by
    rcases rfm_n hy with e | e | e | e | e <;> rw [e] at h <;> exact absurd h (by decide)
  rcases v with ⟨h1, h2, _⟩ | ⟨h1, h2, _⟩ | ⟨h1, h2, _⟩ | ⟨h1, h2, _⟩ | ⟨rfl, rfl, a, b, rfl, rfl, h⟩ | ⟨rfl, rfl, a, b, rfl, rfl, h⟩ | ⟨rfl, rfl, a, b, rfl, rfl, h⟩ | ⟨rfl, rfl, a, b, rfl, rfl, h⟩ | ⟨_, _, _, _, _, _, h⟩
  · exact ⟨fun y hy => absurd hy (nx (.inl h1) y), fun y hy => absurd hy (nm (.inl h2) y)⟩
  · exact ⟨fun y hy => absurd hy (nx (.inr (.inl h1)) y), fun y hy => absurd hy (nm (.inr (.inl h2)) y)⟩
  · exact ⟨fun y hy => absurd hy (nx (.inr (.inr (.inl h1))) y), fun y hy => absurd hy (nm (.inr (.inl h2)) y)⟩
  · exact ⟨fun y hy => absurd hy (nx (.inr (.inr (.inr h1))) y), fun y hy => absurd hy (nm (.inr (.inr h2)) y)⟩
  · refine ⟨fun y hy => ?_, fun y hy => ?_⟩
    · rcases hy with ⟨_, e, c⟩ | ⟨e, _⟩ | ⟨e, _⟩ | ⟨e, _⟩ | ⟨e, _⟩
      · rw [i32_64] at e c
        have hs : (a, b) ∈ wS w := by
          rcases h with h | h
          · exact h
          · exact absurd (Int32.lt_of_lt_of_le c (p0 a b h).1) Int32.lt_irrefl
        refine ⟨(1, b), .inl ⟨rfl, by rw [i32_64], by rw [i32_64]; exact (p1 a b hs).2.1⟩, ?_⟩
        rw [e]; exact .inl ⟨rfl, rfl, hs⟩
      · exact absurd e (by decide)
      · exact absurd e (by decide)
      · exact absurd e (by decide)
      · exact absurd e (by decide)
    · rcases hy with ⟨_, e, c⟩ | ⟨e, _⟩ | ⟨e, _⟩ | ⟨e, _⟩ | ⟨e, _⟩
      · rw [i32_64] at e c
        have hs : (a, b) ∈ wS w := by
          rcases h with h | h
          · exact h
          · exact absurd (Int32.lt_of_lt_of_le (p0 a b h).2 c) Int32.lt_irrefl
        refine ⟨(1, a), .inl ⟨rfl, by rw [i32_64], by rw [i32_64]; exact (p1 a b hs).1.2⟩, ?_⟩
        rw [e]; exact .inl ⟨rfl, rfl, hs⟩
      · exact absurd e (by decide)
      · exact absurd e (by decide)
      · exact absurd e (by decide)
      · exact absurd e (by decide)
  · refine ⟨fun y hy => ⟨(2, b), .inr (.inl ⟨rfl, by rw [i32_64]⟩), by rw [(rfx_5 y).mp hy]; exact .inr (.inl ⟨rfl, rfl, h⟩)⟩, fun y hy => ⟨(2, a), .inr (.inl ⟨rfl, by rw [i32_64]⟩), by rw [(rfm_4 y).mp hy]; exact .inr (.inl ⟨rfl, rfl, h⟩)⟩⟩
  · refine ⟨fun y hy => ?_, fun y hy => ?_⟩
    · rcases hy with ⟨e, _⟩ | ⟨e, _⟩ | ⟨_, e, c⟩ | ⟨e, _⟩ | ⟨e, _⟩
      · exact absurd e (by decide)
      · exact absurd e (by decide)
      · rw [i32_64] at e c
        have hs : (a, b) ∈ wF w := by
          rcases h with h | ⟨b0, b1, rfl⟩
          · exact h
          · exfalso; clear p1 p0 p2 p3 p4 p5 nx nm; lia
        refine ⟨(3, b), .inr (.inr (.inl ⟨rfl, by rw [i32_64], by rw [i32_64]; exact (p3 a b hs).2.1⟩)), ?_⟩
        rw [e]; exact .inr (.inr (.inl ⟨rfl, rfl, hs⟩))
      · exact absurd e (by decide)
      · exact absurd e (by decide)
    · rcases hy with ⟨e, _⟩ | ⟨e, _⟩ | ⟨_, e, c⟩ | ⟨e, _⟩ | ⟨e, _⟩
      · exact absurd e (by decide)
      · exact absurd e (by decide)
      · rw [i32_64] at e c
        have hs : (a, b) ∈ wF w := by
          rcases h with h | ⟨b0, b1, rfl⟩
          · exact h
          · exfalso; clear p1 p0 p2 p3 p4 p5 nx nm; lia
        refine ⟨(3, a), .inr (.inr (.inl ⟨rfl, by rw [i32_64], by rw [i32_64]; exact (p3 a b hs).1.1⟩)), ?_⟩
        rw [e]; exact .inr (.inr (.inl ⟨rfl, rfl, hs⟩))
      · exact absurd e (by decide)
      · exact absurd e (by decide)
  · refine ⟨fun y hy => ?_, fun y hy => ?_⟩
    · rcases hy with ⟨e, _⟩ | ⟨e, _⟩ | ⟨e, _⟩ | ⟨_, e, c⟩ | ⟨e, _⟩
      · exact absurd e (by decide)
      · exact absurd e (by decide)
      · exact absurd e (by decide)
      · rw [i32_64] at e c
        have hs : (a, b) ∈ wC w := by
          rcases h with h | ⟨rfl, _⟩
          · exact h
          · exact absurd c (by decide)
        refine ⟨(5, b), .inr (.inr (.inr (.inr ⟨rfl, by rw [i32_64], by rw [i32_64]; exact (p5 a b hs).2.2⟩))), ?_⟩
        rw [e]; exact .inr (.inr (.inr (.inr ⟨rfl, rfl, hs⟩)))
      · exact absurd e (by decide)
    · rcases hy with ⟨e, _⟩ | ⟨e, _⟩ | ⟨e, _⟩ | ⟨e, _⟩ | ⟨_, e, c⟩
      · exact absurd e (by decide)
      · exact absurd e (by decide)
      · exact absurd e (by decide)
      · exact absurd e (by decide)
      · rw [i32_64] at e c
        have hs : (a, b) ∈ wC w := by
          rcases h with h | ⟨_, rfl⟩
          · exact h
          · exact absurd c (by decide)
        refine ⟨(5, a), .inr (.inr (.inr (.inl ⟨rfl, by rw [i32_64], by rw [i32_64]; exact (p5 a b hs).1.1⟩))), ?_⟩
        rw [e]; exact .inr (.inr (.inr (.inr ⟨rfl, rfl, hs⟩)))
  · exact h.elim
/-- a value of a call -/
theorem RV_rf {w : WD} (P : PRK w) {σ : mS} {f x tm : Int32} {vm : Int64} (h : RV w σ f x tm vm) : (0 ≤ dc x → ∀ y, rfx (xt σ f (dc x)) (xv σ f (dc x)) y → ∃ y', rfm tm vm y' ∧ PR w y y') ∧ (∀ y', rfm tm vm y' → 0 ≤ dc x ∧ ∃ y, rfx (xt σ f (dc x)) (xv σ f (dc x)) y ∧ PR w y y') := by
  have nm : tm = 0 → ∀ y, ¬ rfm tm vm y := fun h y hy => by
    rcases rfm_n hy with e | e | e | e | e <;> rw [e] at h <;> exact absurd h (by decide)
  rcases h with ⟨rfl, h⟩ | ⟨h0, h⟩ | ⟨h0, h1, h2, a, b, h3, h4, h5, _⟩ | ⟨h0, h1, h2, _⟩ | ⟨h0, h, _⟩
  · exact ⟨fun h => absurd h (by decide), fun y hy => absurd hy (nm h y)⟩
  · rw [dc_p h0]
    have V := VV_rf P h
    exact ⟨fun _ => V.1, fun y hy => ⟨h0, V.2 y hy⟩⟩
  · have d0 := dc_0 h0
    rw [h1, h3, h2, h4]
    refine ⟨fun _ y hy => ⟨(4, b), (rfm_7 _).mpr rfl, ?_⟩, fun y hy => ⟨d0, (4, a), .inr (.inr (.inr (.inr ⟨rfl, by rw [i32_64]⟩))), ?_⟩⟩
    · rcases hy with ⟨e, _⟩ | ⟨e, _⟩ | ⟨e, _⟩ | ⟨e, _⟩ | ⟨_, e⟩
      · exact absurd e (by decide)
      · exact absurd e (by decide)
      · exact absurd e (by decide)
      · exact absurd e (by decide)
      · rw [i32_64] at e
        rw [e]; exact .inr (.inr (.inr (.inl ⟨rfl, rfl, h5⟩)))
    · rw [(rfm_7 y).mp hy]; exact .inr (.inr (.inr (.inl ⟨rfl, rfl, h5⟩)))
  · refine ⟨fun _ y hy => ?_, fun y hy => absurd hy (nm h1 y)⟩
    rw [h2] at hy
    rcases rfx_n hy with e | e | e | e | e <;> exact absurd e (by decide)
  · have d0 := dc_0 (Int32.le_trans h0 (by decide))
    have V := VV_rf P h
    exact ⟨fun _ => V.1, fun y hy => ⟨d0, V.2 y hy⟩⟩
theorem F2_lr {R : Int32 → Int32 → Prop} : ∀ {l m : List Int32}, F2 R l m → (∀ x, x ∈ l → ∃ y, y ∈ m ∧ R x y) ∧ (∀ y, y ∈ m → ∃ x, x ∈ l ∧ R x y)
  | [], [], _ => ⟨fun x hx => absurd hx (by simp), fun x hx => absurd hx (by simp)⟩
  | x :: l, y :: m, h => by
    obtain ⟨i1, i2⟩ := F2_lr h.2
    refine ⟨fun z hz => ?_, fun z hz => ?_⟩
    · rcases List.mem_cons.mp hz with rfl | hz
      · exact ⟨y, List.mem_cons_self, h.1⟩
      · obtain ⟨u, hu, r⟩ := i1 z hz
        exact ⟨u, List.mem_cons_of_mem _ hu, r⟩
    · rcases List.mem_cons.mp hz with rfl | hz
      · exact ⟨x, List.mem_cons_self, h.1⟩
      · obtain ⟨u, hu, r⟩ := i2 z hz
        exact ⟨u, List.mem_cons_of_mem _ hu, r⟩
  | [], _ :: _, h => h.elim
  | _ :: _, [], h => h.elim
/-- tables -/
theorem ed_T {w : WD} (P : PRK w) {σ μ : mS} {es es' xf : Int32 → List Int32} (R : RT w σ μ es es') {a b : Int32} (h : (a, b) ∈ wT w) : (∀ y, edx σ es xf (2, a) y → ∃ y', edm μ es' (2, b) y' ∧ PR w y y') ∧ (∀ y', edm μ es' (2, b) y' → ∃ y, edx σ es xf (2, a) y ∧ PR w y y') := by
  obtain ⟨f2, mt, _⟩ := R.2.2.2.2 a b h
  obtain ⟨l1, l2⟩ := F2_lr f2
  refine ⟨fun y hy => ?_, fun y hy => ?_⟩
  · rcases hy with ⟨_, hy⟩ | ⟨e, _⟩ | ⟨e, _⟩ | ⟨e, _⟩
    · rcases hy with ⟨h1, h2⟩ | ⟨e, he, h0, h1⟩
      · rcases mt with ⟨m1, _⟩ | m1
        · exact absurd m1 h1
        · refine ⟨(2, sI μ 20 b), .inl ⟨rfl, .inl ⟨(P.2.2.1 _ _ m1).2.1, rfl⟩⟩, ?_⟩
          rw [h2]; exact .inr (.inl ⟨rfl, rfl, m1⟩)
      · obtain ⟨e', he', k, v, _⟩ := l1 e he
        have h0' : sI μ 34 e' ≠ 0 := fun q => h0 ((VV_t v).1.mpr q)
        rcases h1 with h1 | h1
        · obtain ⟨y', r1, r2⟩ := (VV_rf P k).1 y h1
          exact ⟨y', .inl ⟨rfl, .inr ⟨e', he', h0', .inl r1⟩⟩, r2⟩
        · obtain ⟨y', r1, r2⟩ := (VV_rf P v).1 y h1
          exact ⟨y', .inl ⟨rfl, .inr ⟨e', he', h0', .inr r1⟩⟩, r2⟩
    · exact absurd (show (2 : Nat) = 3 from e) (by decide)
    · exact absurd (show (2 : Nat) = 4 from e) (by decide)
    · exact absurd (show (2 : Nat) = 5 from e) (by decide)
  · rcases hy with ⟨_, hy⟩ | ⟨e, _⟩ | ⟨e, _⟩ | ⟨e, _⟩
    · rcases hy with ⟨h1, h2⟩ | ⟨e', he', h0', h1⟩
      · rcases mt with ⟨_, m1⟩ | m1
        · have : sI μ 20 b = -1 := m1
          have h1' : 0 ≤ sI μ 20 b := h1
          rw [this] at h1'
          exact absurd h1' (by decide)
        · have a0 := (P.2.2.1 _ _ m1).1.1
          refine ⟨(2, sI σ 195 a), .inl ⟨rfl, .inl ⟨fun q => ?_, rfl⟩⟩, ?_⟩
          · have q' : sI σ 195 a = -1 := q
            rw [q'] at a0
            exact absurd a0 (by decide)
          · rw [h2]; exact .inr (.inl ⟨rfl, rfl, m1⟩)
      · obtain ⟨e, he, k, v, _⟩ := l2 e' he'
        have h0 : sI σ 214 e ≠ 0 := fun q => h0' ((VV_t v).1.mp q)
        rcases h1 with h1 | h1
        · obtain ⟨y', r1, r2⟩ := (VV_rf P k).2 y h1
          exact ⟨y', .inl ⟨rfl, .inr ⟨e, he, h0, .inl r1⟩⟩, r2⟩
        · obtain ⟨y', r1, r2⟩ := (VV_rf P v).2 y h1
          exact ⟨y', .inl ⟨rfl, .inr ⟨e, he, h0, .inr r1⟩⟩, r2⟩
    · exact absurd (show (2 : Nat) = 3 from e) (by decide)
    · exact absurd (show (2 : Nat) = 4 from e) (by decide)
    · exact absurd (show (2 : Nat) = 5 from e) (by decide)
theorem neg_c {c : Int32} (h0 : 0 ≤ c) (h1 : c < 121) : (-1 : Int32) - c < 0 ∧ (-1 : Int32) - (-1 - c) = c := ⟨by lia, by lia⟩
/-- functions -/
theorem ed_F {w : WD} (P : PRK w) {K : Int32 → Int32 → Int32 → Prop} {σ μ : mS} {es es' xf : Int32 → List Int32} (R : RF K w σ μ) (hK : ∀ g b n, K g b n → sI μ 81 b = n) {a b : Int32} (h : (a, b) ∈ wF w) : (∀ y, edx σ es xf (3, a) y → ∃ y', edm μ es' (3, b) y' ∧ PR w y y') ∧ (∀ y', edm μ es' (3, b) y' → ∃ y, edx σ es xf (3, a) y ∧ PR w y y') := by
  obtain ⟨_, _, _, q4, q5⟩ := R.2.2.2 a b h
  refine ⟨fun y hy => ?_, fun y hy => ?_⟩
  · rcases edx_3 hy with ⟨k, k0, k1, rfl⟩ | ⟨h1, rfl⟩
    · rcases q4 with ⟨g0, b0, kk⟩ | ⟨z, _⟩
      · refine ⟨(4, sI μ 50 (sI μ 46 b + k)), .inr (.inl ⟨rfl, .inr ⟨b0, k, k0, by rw [hK _ _ _ kk]; exact k1, rfl⟩⟩), .inr (.inr (.inr (.inl ⟨rfl, rfl, q5 k k0 k1⟩)))⟩
      · rw [z] at k1
        exact absurd (Int32.lt_of_le_of_lt k0 k1) Int32.lt_irrefl
    · rcases q4 with ⟨g0, _⟩ | ⟨_, c, d, cd, e1, e2⟩
      · exact absurd h1 (Int32.not_lt.mpr g0)
      · have pc := P.2.2.2.2.2 c d cd
        have nc := neg_c (Int32.le_of_lt pc.1.1) pc.1.2
        have nd := neg_c pc.2.1 (Int32.lt_trans pc.2.2 (by decide))
        refine ⟨(5, d), .inr (.inl ⟨rfl, .inl ⟨by rw [show sI μ 45 (3, b).2 = -1 - d from e2]; exact nd.1, .inr (.inr (.inr (.inr ⟨rfl, ?_, ?_⟩)))⟩⟩), ?_⟩
        · rw [i32_64, show sI μ 45 (3, b).2 = -1 - d from e2, nd.2]
        · rw [i32_64, show sI μ 45 (3, b).2 = -1 - d from e2, nd.2]; exact pc.2.2
        · rw [e1, nc.2]; exact .inr (.inr (.inr (.inr ⟨rfl, rfl, cd⟩)))
  · rcases hy with ⟨e, _⟩ | ⟨_, hy⟩ | ⟨e, _⟩ | ⟨e, _⟩
    · exact absurd (show (3 : Nat) = 2 from e) (by decide)
    · rcases hy with ⟨h1, h2⟩ | ⟨h1, k, k0, k1, rfl⟩
      · have h1' : sI μ 45 b < 0 := h1
        have h2' : rfm 6 (Int32.toInt64 (-1 - sI μ 45 b)) y := h2
        rcases q4 with ⟨_, b0, _⟩ | ⟨_, c, d, cd, e1, e2⟩
        · exact absurd h1' (Int32.not_lt.mpr b0)
        · have pc := P.2.2.2.2.2 c d cd
          have nc := neg_c (Int32.le_of_lt pc.1.1) pc.1.2
          have nd := neg_c pc.2.1 (Int32.lt_trans pc.2.2 (by decide))
          rw [e2, nd.2] at h2'
          refine ⟨(5, c), .inr (.inl ⟨rfl, .inr ⟨by show sI σ 222 a < 0; rw [e1]; exact nc.1, by show (5, c) = (5, -1 - sI σ 222 a); rw [e1, nc.2]⟩⟩), ?_⟩
          rcases h2' with ⟨e, _⟩ | ⟨e, _⟩ | ⟨e, _⟩ | ⟨e, _⟩ | ⟨_, e, _⟩
          · exact absurd e (by decide)
          · exact absurd e (by decide)
          · exact absurd e (by decide)
          · exact absurd e (by decide)
          · rw [i32_64] at e
            rw [e]; exact .inr (.inr (.inr (.inr ⟨rfl, rfl, cd⟩)))
      · have h1' : 0 ≤ sI μ 45 b := h1
        have k1' : k < sI μ 81 (sI μ 45 b) := k1
        rcases q4 with ⟨g0, b0, kk⟩ | ⟨_, c, d, cd, e1, e2⟩
        · rw [hK _ _ _ kk] at k1'
          exact ⟨(4, sI σ 231 (sI σ 223 a + k)), .inr (.inl ⟨rfl, .inl ⟨k, k0, k1', rfl⟩⟩), .inr (.inr (.inr (.inl ⟨rfl, rfl, q5 k k0 k1'⟩)))⟩
        · have pc := P.2.2.2.2.2 c d cd
          have nd := neg_c pc.2.1 (Int32.lt_trans pc.2.2 (by decide))
          rw [e2] at h1'
          exact absurd nd.1 (Int32.not_lt.mpr h1')
    · exact absurd (show (3 : Nat) = 4 from e) (by decide)
    · exact absurd (show (3 : Nat) = 5 from e) (by decide)
/-- boxes -/
theorem ed_B {w : WD} (P : PRK w) {σ μ : mS} {es es' xf : Int32 → List Int32} (R : RB w σ μ) {a b : Int32} (h : (a, b) ∈ wB w) : (∀ y, edx σ es xf (4, a) y → ∃ y', edm μ es' (4, b) y' ∧ PR w y y') ∧ (∀ y', edm μ es' (4, b) y' → ∃ y, edx σ es xf (4, a) y ∧ PR w y y') := by
  have V := VV_rf P (R.2.2 a b h)
  refine ⟨fun y hy => ?_, fun y hy => ?_⟩
  · obtain ⟨y', r1, r2⟩ := V.1 y (edx_4.mp hy)
    exact ⟨y', .inr (.inr (.inl ⟨rfl, r1⟩)), r2⟩
  · rcases hy with ⟨e, _⟩ | ⟨e, _⟩ | ⟨_, hy⟩ | ⟨e, _⟩
    · exact absurd (show (4 : Nat) = 2 from e) (by decide)
    · exact absurd (show (4 : Nat) = 3 from e) (by decide)
    · obtain ⟨y', r1, r2⟩ := V.2 y hy
      exact ⟨y', edx_4.mpr r1, r2⟩
    · exact absurd (show (4 : Nat) = 5 from e) (by decide)
