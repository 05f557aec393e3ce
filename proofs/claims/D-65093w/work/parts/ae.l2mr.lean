/-! LAYER 2: a machine that runs; what an instruction touches -/
/-- what lies on the pile of the top call -/
def TP (w : WD) (σ μ : mS) (f k : Int32) (ρ : List Int32) (m : Int32) : Prop :=
  (m = -1 ∧ RG w σ f (sI μ 141) (sJ μ 142) (mff μ k 3) ρ ∧ sF μ 143 = mff μ k 3 + Int32.ofNat ρ.length)
  ∨ (m = -2 ∧ ∃ ρ0 r, ρ = ρ0 ++ [r] ∧ 0 ≤ r ∧ RG w σ f (sI μ 141) (sJ μ 142) (mff μ k 3) ρ0 ∧ sF μ 143 = mff μ k 3 + Int32.ofNat ρ.length ∧ xv σ f r = 0 ∧ sI μ 141 (sF μ 143 - 1) = 1 ∧ ((xt σ f r = 2 ∧ sJ μ 142 (sF μ 143 - 1) = 0) ∨ (xt σ f r = 1 ∧ sJ μ 142 (sF μ 143 - 1) = 1)))
  ∨ (0 ≤ m ∧ ∃ n, 0 ≤ n ∧ n ≤ 100 ∧ RG w σ f (sI μ 141) (sJ μ 142) (mff μ k 3) ρ ∧ RG w σ f (sI μ 141) (sJ μ 142) (mff μ k 3 + Int32.ofNat ρ.length) (rng m n) ∧ sF μ 143 = mff μ k 3 + Int32.ofNat ρ.length + n ∧ sI σ 354 f = m + n ∧ mff μ k 9 = n)
def btO (d : Int32) : Int32 := if d = 120 then 5 else 4
def MR0 (e : EV) (w : WD) (xf : Int32 → List Int32) (c d : Int32) (rest : PL2) (f : Int32) (fl : List Int32) (σ μ : mS) : Prop :=
  ME (eS e) (eK e) (eQ e) w xf c d rest σ μ ∧ SV e w σ μ ∧ xf c = f :: fl ∧ sI μ 162 d < sF μ 154 ∧ (sI μ 161 d ≤ mff μ (sF μ 154 - 1) 5 ∧ mff μ (sF μ 154 - 1) 5 ≤ sI μ 161 d + 2300 * (sF μ 154 - 1 - sI μ 162 d)) ∧ FC w σ (mff μ) (sI μ 141) (sJ μ 142) f (sF μ 154 - 1) [] ∧ FL (eS e) w σ (mff μ) (sI μ 141) (sJ μ 142) (btO d) (sI μ 162 d) (sI μ 161 d) fl (sF μ 154 - 1) (ctO σ (mff μ) f (sF μ 154 - 1))
def MR (e : EV) (w : WD) (xf : Int32 → List Int32) (c d : Int32) (rest : PL2) (f : Int32) (fl : List Int32) (ρ : List Int32) (m : Int32) (σ μ : mS) : Prop := MR0 e w xf c d rest f fl σ μ ∧ TP w σ μ f (sF μ 154 - 1) ρ m
/-- runs from here are well -/
def HG (e : EV) (M : Nat) (F : Int32) (n : Int32) : Prop := ∀ w xf c d rest f fl ρ m rk σ μ, MR e w xf c d rest f fl ρ m σ μ → rk ≤ 2000000 → eZ e rk (sI σ 344 f) (sI σ 346 f) (mff μ (sF μ 154 - 1) 2) ρ m → sF σ 396 = F → sF μ 154 ≤ n → Good e M σ μ
def xT (k : Nat) : Bool := [345, 346, 353, 354, 364, 365].contains k || inR 397 405 k || inR 407 411 k || inR 520 522 k || inR 538 541 k
def nT (k : Nat) : Bool := [16, 17, 42, 43, 141, 142, 143, 146, 152, 153, 188, 189, 190].contains k || inR 221 231 k
theorem xT_f {k : Nat} (h : (k < 345 ∨ (346 < k ∧ k < 353) ∨ (354 < k ∧ k < 364) ∨ (365 < k ∧ k < 397) ∨ k = 406 ∨ (411 < k ∧ k < 520) ∨ (522 < k ∧ k < 538) ∨ 541 < k)) : xT k = false := by
  simp only [xT, inR, List.contains_cons, List.contains_nil, Bool.or_eq_false_iff, beq_eq_false_iff_ne, Bool.and_eq_false_iff, decide_eq_false_iff_not]
  (repeat' (first | exact trivial | omega | apply And.intro))
theorem nT_f {k : Nat} (h : (k < 16 ∨ (17 < k ∧ k < 42) ∨ (43 < k ∧ k < 141) ∨ (143 < k ∧ k < 146) ∨ (146 < k ∧ k < 152) ∨ (153 < k ∧ k < 188) ∨ (190 < k ∧ k < 221) ∨ 231 < k)) : nT k = false := by
  simp only [nT, inR, List.contains_cons, List.contains_nil, Bool.or_eq_false_iff, beq_eq_false_iff_ne, Bool.and_eq_false_iff, decide_eq_false_iff_not]
  (repeat' (first | exact trivial | omega | apply And.intro))
/-- only the top call's own fields and its registers below R change -/
def xtc (f R : Int32) (σ τ : mS) : Prop := m_fr xT σ τ ∧ (∀ k, k = 345 ∨ k = 346 ∨ k = 353 ∨ k = 354 → ∀ g, 0 ≤ g → g ≠ f → sI τ k g = sI σ k g) ∧ ∀ i, 0 ≤ i → i < sI σ 347 f ∨ sI σ 347 f + R ≤ i → sI τ 364 i = sI σ 364 i ∧ sJ τ 365 i = sJ σ 365 i
def mtc (k0 B : Int32) (μ τm : mS) : Prop := m_fr nT μ τm ∧ (∀ k, k = 146 ∨ k = 152 ∨ k = 153 → ∀ i, 0 ≤ i → i < k0 → sI τm k i = sI μ k i) ∧ ∀ i, 0 ≤ i → i < B → sI τm 141 i = sI μ 141 i ∧ sJ τm 142 i = sJ μ 142 i
theorem xtc_rfl {f R : Int32} {σ : mS} : xtc f R σ σ := ⟨mf_rfl, fun _ _ _ _ _ => rfl, fun _ _ _ => ⟨rfl, rfl⟩⟩
theorem mtc_rfl {k0 B : Int32} {μ : mS} : mtc k0 B μ μ := ⟨mf_rfl, fun _ _ _ _ _ => rfl, fun _ _ _ => ⟨rfl, rfl⟩⟩
theorem xtc_tr {f R : Int32} {σ τ υ : mS} (h : xtc f R σ τ) (h' : xtc f R τ υ) : xtc f R σ υ := ⟨mf_tr h.1 h'.1, fun k hk g g0 gf => by rw [h'.2.1 k hk g g0 gf, h.2.1 k hk g g0 gf], fun i i0 i1 => by
  have e : sI τ 347 f = sI σ 347 f := mf_I h.1 (xT_f (by omega))
  have a := h'.2.2 i i0 (by rw [e]; exact i1)
  have b := h.2.2 i i0 i1
  rw [a.1, a.2]; exact b⟩
theorem mtc_tr {k0 B : Int32} {σ τ υ : mS} (h : mtc k0 B σ τ) (h' : mtc k0 B τ υ) : mtc k0 B σ υ := ⟨mf_tr h.1 h'.1, fun k hk g g0 gf => by rw [h'.2.1 k hk g g0 gf, h.2.1 k hk g g0 gf], fun i i0 i1 => by
  have a := h'.2.2 i i0 i1
  have b := h.2.2 i i0 i1
  rw [a.1, a.2]; exact b⟩
/-- another call stays -/
theorem xtc_o {w : WD} {xf : Int32 → List Int32} {σ τ : mS} {f g R : Int32} (X : XF w xf σ) (h : xtc f R σ τ) (hf : f ∈ fAll w xf) (hg : g ∈ fAll w xf) (ne : g ≠ f) (hR : R ≤ sI σ 349 f) (R0 : 0 ≤ R) : xcs σ τ g := by
  obtain ⟨⟨g0, g1⟩, gz0, gz1, gb⟩ := XF_at X hg
  obtain ⟨⟨f0, f1⟩, fz0, fz1, fb⟩ := XF_at X hf
  obtain ⟨h1, h2, h3⟩ := h
  refine ⟨fun k hk => ?_, fun x x0 x1 => ?_⟩
  · by_cases q : k = 345 ∨ k = 346 ∨ k = 353 ∨ k = 354
    · exact h2 k q g g0 ne
    · exact mf_I h1 (xT_f (by omega))
  · have gn : sI σ 349 g ≠ 0 := by lia
    obtain ⟨gb0, gb1, gb2⟩ := gb gn
    simp only [xt, xv]
    rw [mf_I (k := 347) h1 (xT_f (by omega))]
    by_cases fz : sI σ 349 f = 0
    · have : R = 0 := by lia
      subst this
      exact h3 _ (by lia) (by lia)
    · obtain ⟨fb0, fb1, fb2⟩ := fb fz
      rcases XF_dis X hf hg (fun q => ne q.symm) fz gn with q | q
      · exact h3 _ (by lia) (.inr (by lia))
      · exact h3 _ (by lia) (.inl (by lia))
theorem FL_B {S : SR} {w : WD} {σ : mS} {ff : Int32 → Nat → Int32} {pt : Int32 → Int32} {pv : Int32 → Int64} {bt k0 B0 n : Int32} {fl : List Int32} {ct : CT} (h : FL S w σ ff pt pv bt k0 B0 fl n ct) (hk : kb k0 B0 n) : B0 ≤ ct.2.2.2.1 ∧ k0 ≤ n := by
  cases fl with
  | nil => obtain ⟨a, b, _⟩ := h; exact ⟨by lia, by lia⟩
  | cons f fl =>
    obtain ⟨h1, ⟨h2, h2'⟩, h3, h4⟩ := h
    obtain ⟨k1, k2, k3, k4⟩ := hk
    refine ⟨?_, by lia⟩
    rcases h3 with ⟨_, _, _, _, q, _⟩ | ⟨ρ, ⟨_, _, _, _, _, _, c7, c8, _⟩, q, q2, _⟩
    · rw [q]; lia
    · have lb := oN_bd q2
      obtain ⟨_, c7a, c7b⟩ := c7
      rw [q]; lia
/-- calls below stay -/
theorem FL_tc {S : SR} {w : WD} {xf : Int32 → List Int32} {σ μ τ τm : mS} {f R kk B bt k0 B0 n : Int32} {fl : List Int32} {ct : CT} (h : FL S w σ (mff μ) (sI μ 141) (sJ μ 142) bt k0 B0 fl n ct) (hk : kb k0 B0 n) (X : XF w xf σ) (x : xtc f R σ τ) (y : mtc kk B μ τm) (hf : f ∈ fAll w xf) (hR : R ≤ sI σ 349 f) (R0 : 0 ≤ R) (hfl : ∀ g, g ∈ fl → g ∈ fAll w xf ∧ g ≠ f) (hn : n ≤ kk) (hB : ct.2.2.2.1 ≤ B) : FL S w τ (mff τm) (sI τm 141) (sJ τm 142) bt k0 B0 fl n ct := by
  refine FL_cg h hk wle_rfl (fun g hg => xtc_o X x hf (hfl g hg).1 (hfl g hg).2 hR R0) (cds_fr x.1 (xT_f (by omega)) (xT_f (by omega)) (xT_f (by omega))) (fun k j k0' k1 hj => ?_) (fun i i0 i1 => y.2.2 i (by have := hk.2.2.1; lia) (by lia))
  simp only [mff]
  have kp : 0 ≤ k := by have := hk.1; lia
  by_cases q : 144 + j = 146 ∨ 144 + j = 152 ∨ 144 + j = 153
  · exact y.2.1 _ q k kp (by lia)
  · exact mf_I y.1 (nT_f (by omega))
theorem BC_tc {S : SR} {w : WD} {xf : Int32 → List Int32} {σ μ τ τm : mS} {f R kk B : Int32} (X : XF w xf σ) (x : xtc f R σ τ) (y : mtc kk B μ τm) (hf : f ∈ fAll w xf) (hR : R ≤ sI σ 349 f) (R0 : 0 ≤ R) : ∀ {p : Int32 × Int32} {rest : PL2}, BC S w xf σ μ p rest → sI μ 162 p.2 ≤ kk → sI μ 161 p.2 ≤ B → (∀ e, e ∈ rest → ∀ g, g ∈ xf e.1 → g ∈ fAll w xf ∧ g ≠ f) → BC S w xf τ τm p rest
  | (c, d), [], h, _, _, _ => by
    obtain ⟨h1, h2, h3, h4⟩ := h
    refine ⟨h1, h2, ?_, ?_⟩
    · rw [mf_I y.1 (nT_f (by omega))]; exact h3
    · rw [mf_I y.1 (nT_f (by omega))]; exact h4
  | (c, d), e :: rest, h, hk, hB, hg => by
    obtain ⟨h1, h2, h3, h4, h5, h6, h7, h8, h9, h10⟩ := h
    have kb' := BC_kb h10
    simp only at hk hB
    have i : ∀ k, 156 ≤ k → k ≤ 178 → ∀ m, sI τm k m = sI μ k m := fun k a b m => mf_I y.1 (nT_f (by omega))
    have xx : ∀ k, 323 ≤ k → k ≤ 339 → ∀ m, sI τ k m = sI σ k m := fun k a b m => mf_I x.1 (xT_f (by omega))
    have m5 : ∀ k, mff τm k 5 = mff μ k 5 := fun k => mf_I y.1 (nT_f (by omega))
    have m6 : ∀ k, mff τm k 6 = mff μ k 6 := fun k => mf_I y.1 (nT_f (by omega))
    have m7 : ∀ k, mff τm k 7 = mff μ k 7 := fun k => mf_I y.1 (nT_f (by omega))
    have i144 : ∀ m, sI τm 144 m = sI μ 144 m := fun m => mf_I y.1 (nT_f (by omega))
    have kb2 : kb (sI μ 162 e.2) (sI μ 161 e.2) (sI μ 162 d - 1) := ⟨kb'.1, by lia, kb'.2.2.1, kb'.2.2.2.1⟩
    have fb := FL_B h9 kb2
    have fb1 : sI μ 161 e.2 ≤ mff μ (sI μ 162 d - 1) 5 := fb.1
    refine ⟨h1, ?_, ?_, ?_, ?_, ?_, ?_, ?_, ?_, BC_tc X x y hf hR R0 h10 (by lia) (by lia) (fun p hp => hg p (List.mem_cons_of_mem _ hp))⟩
    · rw [xx 324 (by omega) (by omega), i 159 (by omega) (by omega), i 166 (by omega) (by omega), i 164 (by omega) (by omega)]; exact h2
    · rw [i 162 (by omega) (by omega)]; exact h3
    · rw [xx 328 (by omega) (by omega), i144, i 162 (by omega) (by omega)]; exact h4
    · rw [i 161 (by omega) (by omega), i 162 (by omega) (by omega), m5]; exact h5
    · rw [xx 327 (by omega) (by omega), i 160 (by omega) (by omega)]; exact h6
    · rw [xx 323 (by omega) (by omega), i 156 (by omega) (by omega)]; exact h7
    · rw [i 161 (by omega) (by omega), i 162 (by omega) (by omega)]; exact h8
    · rw [i 162 (by omega) (by omega), i 162 (by omega) (by omega), i 161 (by omega) (by omega), xx 329 (by omega) (by omega), xx 330 (by omega) (by omega), xx 331 (by omega) (by omega), m5, m6, m7]
      exact FL_tc h9 kb2 X x y hf hR R0 (hg e List.mem_cons_self) (by lia) (by
        show mff μ (sI μ 162 d - 1) 5 ≤ B
        lia)
/-- frames of different coroutines are different -/
theorem fl_ne {w : WD} {xf : Int32 → List Int32} {σ : mS} (X : XF w xf σ) (nc : (cX w).Nodup) {c c' f g : Int32} (hc : c ∈ cX w) (hc' : c' ∈ cX w) (hf : f ∈ xf c) (hg : g ∈ xf c') (ne : c' ≠ c) : g ≠ f := by
  obtain ⟨fc, bl, s1, s2, nd, _⟩ := X
  have nf := (List.nodup_append.mp nd).2.1
  intro q
  subst q
  have key : ∀ (l : List Int32), l.Nodup → ((l.map xf).flatten).Nodup → c ∈ l → c' ∈ l → False := by
    intro l
    induction l with
    | nil => intro _ _ h; simp at h
    | cons a l ih =>
      intro nl nf h h'
      simp only [List.map_cons, List.flatten_cons] at nf
      obtain ⟨na, nb, nx⟩ := List.nodup_append.mp nf
      rcases List.mem_cons.mp h with q | q
      · rcases List.mem_cons.mp h' with q' | q'
        · exact ne (q'.trans q.symm)
        · subst q
          exact nx g hf g (List.mem_flatten.mpr ⟨xf c', List.mem_map.mpr ⟨c', q', rfl⟩, hg⟩) rfl
      · rcases List.mem_cons.mp h' with q' | q'
        · subst q'
          exact nx g hg g (List.mem_flatten.mpr ⟨xf c, List.mem_map.mpr ⟨c, q, rfl⟩, hf⟩) rfl
        · exact ih (List.nodup_cons.mp nl).2 nb q q'
  exact key (cX w) nc nf hc hc'
theorem fl_nd {w : WD} {xf : Int32 → List Int32} {σ : mS} (X : XF w xf σ) {c : Int32} (hc : c ∈ cX w) : (xf c).Nodup := by
  obtain ⟨fc, bl, s1, s2, nd, _⟩ := X
  have nf := (List.nodup_append.mp nd).2.1
  have key : ∀ (l : List Int32), ((l.map xf).flatten).Nodup → c ∈ l → (xf c).Nodup := by
    intro l
    induction l with
    | nil => intro _ h; simp at h
    | cons a l ih =>
      intro nf h
      simp only [List.map_cons, List.flatten_cons] at nf
      obtain ⟨na, nb, nx⟩ := List.nodup_append.mp nf
      rcases List.mem_cons.mp h with q | q
      · subst q; exact na
      · exact ih nb q
  exact key (cX w) nf hc
theorem ME_tc {S : SR} {K : Int32 → Int32 → Int32 → Prop} {q : Int} {w : WD} {xf : Int32 → List Int32} {c d f R kk B : Int32} {fl : List Int32} {rest : PL2} {σ μ τ τm : mS} (H : ME S K q w xf c d rest σ μ) (hf : xf c = f :: fl) (x : xtc f R σ τ) (y : mtc kk B μ τm) (hR : R ≤ sI σ 349 f) (R0 : 0 ≤ R) (hk : sI μ 162 d ≤ kk) (hB : sI μ 161 d ≤ B) : ME S K q w xf c d rest τ τm := by
  obtain ⟨⟨RR, h1⟩, Z, HH, X, C, Bc, h7, h8, h9, h10, h10', h11⟩ := H
  obtain ⟨ncx, pcx⟩ := cX_nd C
  have W := RR.1
  have mem := BC_mem Bc
  have chc : ∀ p, p ∈ (c, d) :: rest → p.1 ∈ cX w := fun p hp => by
    rcases mem p hp with z | z
    · rw [z]; exact List.mem_cons_self
    · exact List.mem_cons_of_mem _ (List.mem_map.mpr ⟨p, z.1, rfl⟩)
  have hc := chc (c, d) List.mem_cons_self
  have ff : f ∈ xf c := by rw [hf]; exact List.mem_cons_self
  have fa := fAll_mem hc ff
  obtain ⟨x1, x2, x3⟩ := x
  obtain ⟨y1, y2, y3⟩ := y
  have xx : xtc f R σ τ := ⟨x1, x2, x3⟩
  have yy : mtc kk B μ τm := ⟨y1, y2, y3⟩
  have R' : RH K (q + fQ μ) w τ τm := RH_fr RR x1 y1 (fun k a b => xT_f (by omega)) (fun k a b q11 q16 q17 q42 q43 q51 => nT_f (by omega))
  have x5 : ∀ k, 356 ≤ k → k ≤ 363 → sF τ k = sF σ k := fun k a b => mf_F x1 (xT_f (by omega))
  have X' : XF w xf τ := by
    obtain ⟨fc, bl, s1, s2, nd, rg, len, ⟨b1, b2, b3, b4⟩, bn, bm⟩ := X
    refine ⟨fc, bl, ?_, fun c' hc' => ?_, nd, rg, len, ⟨?_, ?_, ?_, ?_⟩, bn, fun x => ?_⟩
    · rw [x5 357 (by omega) (by omega)]; exact seg_congr s1 (fun x _ => mf_I x1 (xT_f (by omega)))
    · rw [mf_I x1 (xT_f (by omega))]; exact seg_congr (s2 c' hc') (fun x _ => mf_I x1 (xT_f (by omega)))
    · rw [x5 361 (by omega) (by omega)]; exact seg_congr b1 (fun x _ => mf_I x1 (xT_f (by omega)))
    · rw [x5 362 (by omega) (by omega)]; exact seg_congr b2 (fun x _ => mf_I x1 (xT_f (by omega)))
    · rw [x5 363 (by omega) (by omega)]; exact OB_cg b3 (fun x _ => ⟨mf_I x1 (xT_f (by omega)), mf_I x1 (xT_f (by omega))⟩)
    · rw [x5 363 (by omega) (by omega)]; exact b4
    · rw [mf_I x1 (xT_f (by omega))]; exact bm x
  have i : ∀ k, 154 ≤ k → k ≤ 187 → ∀ m, sI τm k m = sI μ k m := fun k a b m => mf_I y1 (nT_f (by omega))
  have fm : ∀ k, 154 ≤ k → k ≤ 187 → sF τm k = sF μ k := fun k a b => mf_F y1 (nT_f (by omega))
  have xi : ∀ k, 323 ≤ k → k ≤ 339 → ∀ m, sI τ k m = sI σ k m := fun k a b m => mf_I x1 (xT_f (by omega))
  have ks : kSum w τm = kSum w μ := by
    simp only [kSum]
    congr 1
    apply List.map_congr_left
    intro p _
    rw [i 166 (by omega) (by omega)]
  refine ⟨⟨by rw [fQ_e (fm 171 (by omega) (by omega)) (mf_I y1 (nT_f (by omega)))]; exact R', h1⟩, ZS_fr Z x1 (xT_f (by omega)), HO_fr HH wle_rfl x1 y1 (fun k hk => xT_f (by omega)) (fun k a b => nT_f (by omega)) (fun a b _ => xL_fr x1 (fun k a b => xT_f (by omega))) (fun k _ => by rw [y1.2.2.1 44 (nT_f (by omega))]), X', ⟨fun a b hab => ?_, fun e e0 e1 he => ?_, ?_, ?_, ?_, ?_⟩, BC_tc X xx yy fa hR R0 Bc hk hB (fun p hp g hg => ?_), ?_, h8, ?_, ?_, ?_, ?_⟩
  · obtain ⟨a1, a2, a3, a4, a5⟩ := C.1 a b hab
    refine ⟨a1, ?_, ?_, ?_, a5.imp id (fun a6 => ?_)⟩
    · rw [xi 323 (by omega) (by omega), i 156 (by omega) (by omega)]; exact a2
    · rw [mf_J x1 (xT_f (by omega)), i 157 (by omega) (by omega)]; exact a3
    · rw [i 170 (by omega) (by omega)]; exact a4
    · by_cases z : a = c
      · -- c itself is in the chain
        subst z
        rcases mem (a, d) List.mem_cons_self with r | r
        · have := (Prod.mk.inj r).1
          have := W.2.2.2.2.2 a b hab
          lia
        · have bd : b = d := (W.2.2.1 a b a d hab r.1).mp rfl
          subst bd
          have s1 : sI σ 323 a = 1 := h7.2.2.1
          rcases a6 with v | v | v
          · exact absurd (v.1.symm.trans s1) (by decide)
          · exact absurd (v.1.symm.trans s1) (by decide)
          · exact absurd (v.1.symm.trans s1) (by decide)
      · have hca : a ∈ cX w := List.mem_cons_of_mem _ (List.mem_map.mpr ⟨(a, b), hab, rfl⟩)
        refine cKd_cg a6 wle_rfl rfl (fun g hg => xtc_o X xx fa (fAll_mem hca hg) (fl_ne X ncx hc hca ff hg z) hR R0) (cds_fr x1 (xT_f (by omega)) (xT_f (by omega)) (xT_f (by omega))) ⟨fun k k0 k1 k2 => xi k k0 (by omega) a, mf_J x1 (xT_f (by omega)), mf_J x1 (xT_f (by omega))⟩ ⟨fun k k0 k1 => i k (by omega) (by omega) b, fun k j _ _ _ => ?_, fun m _ _ => ⟨?_, ?_⟩⟩
        · simp only [kff]; rw [i 176 (by omega) (by omega), i 165 (by omega) (by omega)]
        · simp only [kpt]; rw [i 173 (by omega) (by omega), i 163 (by omega) (by omega)]
        · simp only [kpv]; rw [mf_J y1 (nT_f (by omega)), i 163 (by omega) (by omega)]
  · rw [i 170 (by omega) (by omega)]; exact C.2.1 e e0 e1 he
  · obtain ⟨fcs, g⟩ := C.2.2.1
    refine ⟨fcs, ?_⟩
    rw [mf_F x1 (xT_f (by omega))]
    exact ⟨seg_congr g.1 (fun x _ => mf_I x1 (xT_f (by omega))), g.2⟩
  · rw [mf_F x1 (xT_f (by omega)), fm 171 (by omega) (by omega)]; exact C.2.2.2.1
  · rw [mf_J x1 (xT_f (by omega)), i 157 (by omega) (by omega)]; exact C.2.2.2.2.1
  · refine KL_sub C.2.2.2.2.2 (fun e he => ⟨?_, i _ (by omega) (by omega) _, i _ (by omega) (by omega) _, i _ (by omega) (by omega) _, i _ (by omega) (by omega) _⟩) (fm _ (by omega) (by omega)) (fm _ (by omega) (by omega))
    obtain ⟨e0, e1, e2, e3, e4⟩ := he
    rw [i 170 (by omega) (by omega)] at e2
    rw [i 156 (by omega) (by omega)] at e3
    rw [i 159 (by omega) (by omega)] at e4
    exact ⟨e0, e1, e2, e3, e4⟩
  · have hp2 := chc p (List.mem_cons_of_mem _ hp)
    have np : p.1 ≠ c := fun r => by
      have := (List.nodup_cons.mp (by simpa using h8 : (c :: rest.map Prod.fst).Nodup)).1
      exact this (by rw [← r]; exact List.mem_map.mpr ⟨p, hp, rfl⟩)
    exact ⟨fAll_mem hp2 hg, fl_ne X ncx hc hp2 ff hg np⟩
  · rw [mf_F x1 (xT_f (by omega)), fm 172 (by omega) (by omega), xi 323 (by omega) (by omega), i 156 (by omega) (by omega)]; exact h7
  · rw [x5 358 (by omega) (by omega), fm 155 (by omega) (by omega), fm 154 (by omega) (by omega), ks]; exact h9
  · rw [mf_F x1 (xT_f (by omega)), fm 180 (by omega) (by omega)]; exact h10
  · rw [mf_F x1 (xT_f (by omega))]; exact h10'
  · rw [fm 178 (by omega) (by omega)]; exact h11
