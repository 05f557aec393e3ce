/-! LAYER 2: the collectors: what can be come to, on both sides -/
theorem nd_inj {α β : Type} {f : α → β} : ∀ {l : List α}, (l.map f).Nodup → ∀ {x y : α}, x ∈ l → y ∈ l → f x = f y → x = y
  | [], _, _, _, h, _, _ => absurd h (by simp)
  | a :: l, nd, x, y, hx, hy, e => by
    simp only [List.map_cons, List.nodup_cons] at nd
    rcases List.mem_cons.mp hx with h1 | h1
    · rcases List.mem_cons.mp hy with h2 | h2
      · rw [h1, h2]
      · exact absurd (List.mem_map.mpr ⟨y, h2, by rw [← e, h1]⟩) nd.1
    · rcases List.mem_cons.mp hy with h2 | h2
      · exact absurd (List.mem_map.mpr ⟨x, h1, by rw [e, h2]⟩) nd.1
      · exact nd_inj nd.2 h1 h2 e
/-- the world of a heap -/
theorem RH_PRK {K : Int32 → Int32 → Int32 → Prop} {q : Int} {w : WD} {σ μ : mS} (H : RH K q w σ μ) (hc : ∀ a b, (a, b) ∈ wC w → a ≤ 120) : PRK w ∧ ((wS w).map Prod.fst).Nodup ∧ ((wS w).map Prod.snd).Nodup := by
  obtain ⟨W, ⟨⟨f, X⟩, ⟨sl, TXx⟩, SMm, ⟨bk, TMm⟩, hx, _⟩, ⟨es, es', R⟩, F, ⟨⟨fb, B1⟩, B2, _⟩, _⟩ := H
  have n1 := X.1.2.2.2.1
  have r1 := X.1.2.2.2.2.1
  have r2 := SMm.1.2.2.2.2.2.1
  obtain ⟨ps, hs, ff, fh, MXx⟩ := R.1
  obtain ⟨ps', MMm⟩ := R.2.2.1
  refine ⟨⟨fun a b h => ?_, fun a b h => ?_, fun a b h => ?_, fun a b h => ?_, fun a b h => ?_, fun a b h => ?_⟩, (List.nodup_append.mp n1).1, SMm.1.2.2.2.2.1⟩
  · refine ⟨r1 a (List.mem_append_left _ (List.mem_map.mpr ⟨_, h, rfl⟩)), ?_⟩
    have := r2 b (List.mem_map.mpr ⟨_, h, rfl⟩)
    rw [show (30000 : Int32) + 12000 = 42000 from by decide] at this
    exact this
  · have := hx a b h
    exact ⟨this.1, Int32.lt_of_lt_of_le this.2.2.2 TMm.2.1⟩
  · refine ⟨⟨(MXx.2.1.1 a (List.mem_map.mpr ⟨_, h, rfl⟩)).1, (MXx.2.1.1 a (List.mem_map.mpr ⟨_, h, rfl⟩)).2.1⟩, ?_⟩
    have := MMm.2.2.2.1 b (List.mem_map.mpr ⟨_, h, rfl⟩)
    exact ⟨this.1, this.2.1⟩
  · have := RF_rng F h
    exact ⟨⟨this.1, this.2.1⟩, this.2.2⟩
  · refine ⟨B1.2.2.1 a (List.mem_append_left _ (List.mem_map.mpr ⟨_, h, rfl⟩)), ?_⟩
    have := B2.1.2.2.2.2.2.1 b (List.mem_map.mpr ⟨_, h, rfl⟩)
    rw [show (0 : Int32) + 12000 = 12000 from by decide] at this
    exact this
  · have := W.2.2.2.2.2 a b h
    have := hc a b h
    exact ⟨⟨by lia, by lia⟩, by lia, by lia⟩
theorem PR_u {w : WD} (W : WOK w) (s1 : ((wS w).map Prod.fst).Nodup) (s2 : ((wS w).map Prod.snd).Nodup) {o o' z z' : OB2} (h : PR w o o') (h' : PR w z z') : o = z ↔ o' = z' := by
  obtain ⟨b1, b2, b3, b4, _⟩ := W
  obtain ⟨k, x⟩ := o
  obtain ⟨k', x'⟩ := o'
  obtain ⟨m, y⟩ := z
  obtain ⟨m', y'⟩ := z'
  have key : (x = y ↔ x' = y') → k = k' → m = m' → (k = m ↔ k' = m') → ((k, x) = (m, y) ↔ (k', x') = (m', y')) := fun h1 h2 h3 h4 => by
    constructor
    · intro h
      obtain ⟨e1, e2⟩ := Prod.mk.inj h
      rw [h4.mp e1, h1.mp e2]
    · intro h
      obtain ⟨e1, e2⟩ := Prod.mk.inj h
      rw [h4.mpr e1, h1.mpr e2]
  have no : ∀ a b : Nat, k = a → k' = a → m = b → m' = b → a ≠ b → ((k, x) = (m, y) ↔ (k', x') = (m', y')) := fun a b e1 e2 e3 e4 ne => by
    constructor
    · intro h; exact absurd ((e1.symm.trans (Prod.mk.inj h).1).trans e3) ne
    · intro h; exact absurd ((e2.symm.trans (Prod.mk.inj h).1).trans e4) ne
  have ye : ∀ a : Nat, k = a → k' = a → m = a → m' = a → (x = y ↔ x' = y') → ((k, x) = (m, y) ↔ (k', x') = (m', y')) := fun a e1 e2 e3 e4 hh => key hh (e1.trans e2.symm) (e3.trans e4.symm) ⟨fun _ => e2.trans e4.symm, fun _ => e1.trans e3.symm⟩
  rcases h with ⟨e1, e2, h⟩ | ⟨e1, e2, h⟩ | ⟨e1, e2, h⟩ | ⟨e1, e2, h⟩ | ⟨e1, e2, h⟩ <;> rcases h' with ⟨e3, e4, h'⟩ | ⟨e3, e4, h'⟩ | ⟨e3, e4, h'⟩ | ⟨e3, e4, h'⟩ | ⟨e3, e4, h'⟩ <;> first | exact no _ _ e1 e2 e3 e4 (by decide) | skip
  · refine ye 1 e1 e2 e3 e4 ⟨fun q => ?_, fun q => ?_⟩
    · exact congrArg Prod.snd (nd_inj s1 h h' q)
    · exact congrArg Prod.fst (nd_inj s2 h h' q)
  · exact ye 2 e1 e2 e3 e4 (b1 _ _ _ _ h h')
  · exact ye 3 e1 e2 e3 e4 (b2 _ _ _ _ h h')
  · exact ye 4 e1 e2 e3 e4 (b4 _ _ _ _ h h')
  · exact ye 5 e1 e2 e3 e4 (b3 _ _ _ _ h h')
/-- edges on both sides -/
theorem ed_all {S : SR} {K : Int32 → Int32 → Int32 → Prop} {q : Int} {w : WD} {xf : Int32 → List Int32} {σ μ : mS} (H : QU S K q w xf σ μ) (hK : ∀ g b n, K g b n → sI μ 81 b = n) {es es' : Int32 → List Int32} (R : RT w σ μ es es') {o o' : OB2} (h : PR w o o') : (∀ y, edx σ es xf o y → ∃ y', edm μ es' o' y' ∧ PR w y y') ∧ (∀ y', edm μ es' o' y' → ∃ y, edx σ es xf o y ∧ PR w y y') := by
  obtain ⟨⟨RHh, hq⟩, Z, HH, X, x0, C, _⟩ := H
  have P := (RH_PRK RHh (fun a b hab => (C.1 a b hab).1)).1
  obtain ⟨k, x⟩ := o
  obtain ⟨k', x'⟩ := o'
  rcases h with ⟨e1, e2, h⟩ | ⟨e1, e2, h⟩ | ⟨e1, e2, h⟩ | ⟨e1, e2, h⟩ | ⟨e1, e2, h⟩ <;> simp only at e1 e2 <;> subst e1 <;> subst e2
  · exact ⟨fun y hy => absurd hy edx_1, fun y hy => absurd hy edm_1⟩
  · exact ed_T P R h
  · exact ed_F P RHh.2.2.2.1 hK h
  · exact ed_B P RHh.2.2.2.2.1 h
  · obtain ⟨a1, a2, a3, a4, a5⟩ := C.1 _ _ h
    exact ed_C P a2 (a5.resolve_left (by simp))
theorem RCX_s {σ : mS} {es xf : Int32 → List Int32} {o y : OB2} (h : RCX σ es xf o) (e : edx σ es xf o y) : RCX σ es xf y := fun P p1 p2 p3 => p3 o y (h P p1 p2 p3) e
theorem RCM_s {μ : mS} {es : Int32 → List Int32} {o y : OB2} (h : RCM μ es o) (e : edm μ es o y) : RCM μ es y := fun P p1 p2 p3 => p3 o y (h P p1 p2 p3) e
theorem RC_1 {S : SR} {K : Int32 → Int32 → Int32 → Prop} {q : Int} {w : WD} {xf : Int32 → List Int32} {σ μ : mS} (H : QU S K q w xf σ μ) (hK : ∀ g b n, K g b n → sI μ 81 b = n) {es es' : Int32 → List Int32} (R : RT w σ μ es es') {o : OB2} (h : RCX σ es xf o) : ∃ o', PR w o o' ∧ RCM μ es' o' := by
  have HH := H.2.2.1
  refine h (fun o => ∃ o', PR w o o' ∧ RCM μ es' o') ⟨(2, sF μ 191), .inr (.inl ⟨rfl, rfl, HH.2.2.2.2.2.2.1⟩), fun P p1 _ _ => p1⟩ ⟨(2, sF μ 192), .inr (.inl ⟨rfl, rfl, HH.2.2.2.2.2.2.2.1⟩), fun P _ p2 _ => p2⟩ (fun o y ho hE => ?_)
  obtain ⟨o', p, r⟩ := ho
  obtain ⟨y', e, p'⟩ := (ed_all H hK R p).1 y hE
  exact ⟨y', p', RCM_s r e⟩
theorem RC_2 {S : SR} {K : Int32 → Int32 → Int32 → Prop} {q : Int} {w : WD} {xf : Int32 → List Int32} {σ μ : mS} (H : QU S K q w xf σ μ) (hK : ∀ g b n, K g b n → sI μ 81 b = n) {es es' : Int32 → List Int32} (R : RT w σ μ es es') {o' : OB2} (h : RCM μ es' o') : ∃ o, PR w o o' ∧ RCX σ es xf o := by
  have HH := H.2.2.1
  refine h (fun o' => ∃ o, PR w o o' ∧ RCX σ es xf o) ⟨(2, sF σ 395), .inr (.inl ⟨rfl, rfl, HH.2.2.2.2.2.2.1⟩), fun P p1 _ _ => p1⟩ ⟨(2, sF σ 394), .inr (.inl ⟨rfl, rfl, HH.2.2.2.2.2.2.2.1⟩), fun P _ p2 _ => p2⟩ (fun o y ho hE => ?_)
  obtain ⟨o', p, r⟩ := ho
  obtain ⟨y', e, p'⟩ := (ed_all H hK R p).2 y hE
  exact ⟨y', p', RCX_s r e⟩
/-- what can be come to on one side can be on the other -/
theorem RC_iff {S : SR} {K : Int32 → Int32 → Int32 → Prop} {q : Int} {w : WD} {xf : Int32 → List Int32} {σ μ : mS} (H : QU S K q w xf σ μ) (hK : ∀ g b n, K g b n → sI μ 81 b = n) {es es' : Int32 → List Int32} (R : RT w σ μ es es') {o o' : OB2} (p : PR w o o') : RCX σ es xf o ↔ RCM μ es' o' := by
  obtain ⟨_, s1, s2⟩ := RH_PRK H.1.1 (fun a b hab => (H.2.2.2.2.2.1.1 a b hab).1)
  have W := H.1.1.1
  constructor
  · intro h
    obtain ⟨z, pz, r⟩ := RC_1 H hK R h
    rw [(PR_u W s1 s2 p pz).mp rfl]; exact r
  · intro h
    obtain ⟨z, pz, r⟩ := RC_2 H hK R h
    rw [(PR_u W s1 s2 p pz).mpr rfl]; exact r
theorem shx_1 {B R c k T : Int32} (B0 : 0 ≤ B) (B1 : B ≤ 560000) (h : B + T ≤ 560000) (hT : T ≤ 2600) (e : T = R + c) (R0 : 0 < R) (R1 : R ≤ 2500) (c0 : 0 ≤ c) (c1 : c ≤ 100) (k0 : 0 ≤ k) (k1 : k < c) : 0 ≤ B + (R + k) ∧ B + (R + k) < 560000 := ⟨by lia, by lia⟩
theorem shx_2 {B k T M : Int32} (B0 : 0 ≤ B) (B1 : B ≤ 560000) (h : B + T ≤ 560000) (hT : T ≤ 2600) (hM : M ≤ T) (k0 : 0 ≤ k) (k1 : k < M) : 0 ≤ B + k ∧ B + k < 560000 := ⟨by lia, by lia⟩
theorem shx_3 {a n k T : Int32} (h0 : 0 ≤ a) (h1 : a ≤ a + n) (h2 : a + n ≤ T) (h3 : T ≤ 12000) (n0 : 0 ≤ n) (k0 : 0 ≤ k) (k1 : k < n) : 0 ≤ a + k ∧ a + k < 12000 := ⟨by lia, by lia⟩
/-- the system's rows lie in range -/
theorem QU_X {S : SR} {K : Int32 → Int32 → Int32 → Prop} {q : Int} {w : WD} {xf : Int32 → List Int32} {σ μ : mS} (H : QU S K q w xf σ μ) (hK : ∀ g b n, K g b n → sI μ 81 b = n) {es es' : Int32 → List Int32} (R : RT w σ μ es es') : CEN σ es xf (RCX σ es xf) ∧ SHX σ es xf (RCX σ es xf) := by
  have H' := H
  obtain ⟨⟨RHh, hq⟩, Z, HH, X, x0, C, _⟩ := H
  have P := (RH_PRK RHh (fun a b hab => (C.1 a b hab).1)).1
  have rc : ∀ o, RCX σ es xf o → ∃ o', PR w o o' := fun o h => by
    obtain ⟨o', p, _⟩ := RC_1 H' hK R h
    exact ⟨o', p⟩
  have kd : ∀ (k : Nat) (x : Int32), RCX σ es xf (k, x) → ∃ x', PR w (k, x) (k, x') := fun k x h => by
    obtain ⟨⟨k', x'⟩, p⟩ := rc _ h
    have : k' = k := by
      rcases p with ⟨a, b, _⟩ | ⟨a, b, _⟩ | ⟨a, b, _⟩ | ⟨a, b, _⟩ | ⟨a, b, _⟩ <;> exact b.trans a.symm
    subst this
    exact ⟨x', p⟩
  obtain ⟨ps, hs, ff, fh, MXx⟩ := R.1
  refine ⟨⟨fun o y h e => RCX_s h e, fun o h => ?_, fun b h => ?_⟩, fun t h => ?_, fun f h => ?_, fun c h => ?_⟩
  · obtain ⟨o', p⟩ := rc o h
    exact (PR_ok P p).1
  · obtain ⟨b', p⟩ := kd 4 b h
    rcases p with ⟨e, _⟩ | ⟨e, _⟩ | ⟨e, _⟩ | ⟨_, _, p⟩ | ⟨e, _⟩
    · exact absurd (show (4 : Nat) = 1 from e) (by decide)
    · exact absurd (show (4 : Nat) = 2 from e) (by decide)
    · exact absurd (show (4 : Nat) = 3 from e) (by decide)
    · exact VV_8 (RHh.2.2.2.2.1.2.2 b b' p)
    · exact absurd (show (4 : Nat) = 5 from e) (by decide)
  · obtain ⟨t', p⟩ := kd 2 t h
    rcases p with ⟨e, _⟩ | ⟨_, _, p⟩ | ⟨e, _⟩ | ⟨e, _⟩ | ⟨e, _⟩
    · exact absurd (show (2 : Nat) = 1 from e) (by decide)
    · have tm : t ∈ tX w := List.mem_map.mpr ⟨_, p, rfl⟩
      have ex := MXx.2.2.2.2.1 t tm
      have fx := MXx.1.1 t tm
      refine ⟨ex.1, fun e he => ⟨(fx e he).1, (fx e he).2.1⟩, ?_⟩
      exact nd_len (M := 20000) _ ex.2.2.1 (fun e he => ⟨(fx e he).1, tI_lt.mp (fx e he).2.1⟩)
    · exact absurd (show (2 : Nat) = 3 from e) (by decide)
    · exact absurd (show (2 : Nat) = 4 from e) (by decide)
    · exact absurd (show (2 : Nat) = 5 from e) (by decide)
  · obtain ⟨f', p⟩ := kd 3 f h
    rcases p with ⟨e, _⟩ | ⟨e, _⟩ | ⟨_, _, p⟩ | ⟨e, _⟩ | ⟨e, _⟩
    · exact absurd (show (3 : Nat) = 1 from e) (by decide)
    · exact absurd (show (3 : Nat) = 2 from e) (by decide)
    · obtain ⟨fr, F1⟩ := RHh.2.2.2.1.1
      obtain ⟨m1, m2, m3, m4, m5, m6, m7⟩ := CX_mem F1 (List.mem_map.mpr ⟨_, p, rfl⟩)
      have m1' : sI σ 224 f ≤ 12000 := fj_5 m3 m4 m5 m6 m7
      exact ⟨m4, m1', fun k k0 k1 => shx_3 m3 m5 m6 m7 m4 k0 k1⟩
    · exact absurd (show (3 : Nat) = 4 from e) (by decide)
    · exact absurd (show (3 : Nat) = 5 from e) (by decide)
  · obtain ⟨c', p⟩ := kd 5 c h
    rcases p with ⟨e, _⟩ | ⟨e, _⟩ | ⟨e, _⟩ | ⟨e, _⟩ | ⟨_, _, p⟩
    · exact absurd (show (5 : Nat) = 1 from e) (by decide)
    · exact absurd (show (5 : Nat) = 2 from e) (by decide)
    · exact absurd (show (5 : Nat) = 3 from e) (by decide)
    · exact absurd (show (5 : Nat) = 4 from e) (by decide)
    · have hc : c ∈ cX w := List.mem_cons_of_mem _ (List.mem_map.mpr ⟨_, p, rfl⟩)
      have X' := X
      obtain ⟨fc, bl, x1, x2, nd, rg, len, _⟩ := X'
      have lc := fl_sub (xf := xf) hc
      rw [List.length_append] at len
      refine ⟨x2 c hc, by simp only [fAll] at len; omega, fun f hf => ?_⟩
      have fa := fAll_mem hc hf
      have at' := XF_at X fa
      refine ⟨rg f (List.mem_append_right _ fa), fun h355 => ?_⟩
      obtain ⟨a1, a2, a3, a4, a5⟩ := C.1 _ _ p
      have ck := a5.resolve_left (by simp)
      rcases ck with ⟨_, b2, _⟩ | ⟨_, b2, _⟩ | ⟨b1, b2, b3, b4, b5, b6, b7⟩
      · rw [b2] at hf; exact absurd hf (by simp)
      · rw [b2] at hf; exact absurd hf (by simp)
      · obtain ⟨_, i1, _⟩ := FL_all b4 b7
        obtain ⟨k, ct', _, _, sw, _⟩ := i1 f hf
        rcases sw with sg | ⟨ρ, FCx, _, _, _, _, LVx⟩
        · exact absurd (h355.symm.trans sg.2.1) (by decide)
        · obtain ⟨c1, c2, c3, c4, c5, c6, c7, c8, c9, _⟩ := FCx
          have fz : sI σ 349 f ≠ 0 := by
            have h9 := c9.1
            have h91 := c9.2.1
            have h92 := c9.2.2
            have h7 := c7.2
            clear i1 LVx at' lc
            lia
          have fb := at'.2.2.2 fz
          refine ⟨c6, ⟨Int32.le_trans LVx.2.1 at'.2.2.1, fun r r0 r1 => shx_2 fb.1 fb.2.1 fb.2.2 at'.2.2.1 LVx.2.1 r0 r1⟩, by rw [c7.1]; exact c7.2.2, fun r r0 r1 => ?_⟩
          rw [c7.1] at r1
          exact shx_1 fb.1 fb.2.1 fb.2.2 at'.2.2.1 c9.1 c9.2.1 c9.2.2 c7.2.1 c7.2.2 r0 r1
