/-! LAYER 2: functions of the house: next -/
theorem F2_find {R : Int32 → Int32 → Prop} {p q : Int32 → Bool} (hp : ∀ x y, R x y → p x = q y) : ∀ {l m : List Int32}, F2 R l m → (l.find? p = none ∧ m.find? q = none) ∨ (∃ x y, l.find? p = some x ∧ m.find? q = some y ∧ R x y ∧ x ∈ l ∧ y ∈ m)
  | [], [], _ => .inl ⟨rfl, rfl⟩
  | [], _ :: _, h => nomatch h
  | _ :: _, [], h => nomatch h
  | x :: l, y :: m, h => by
    obtain ⟨h1, h2⟩ := h
    have e := hp x y h1
    by_cases c : p x = true
    · have c' : q y = true := e.symm.trans c
      exact .inr ⟨x, y, by rw [List.find?_cons, c], by rw [List.find?_cons, c'], h1, List.mem_cons_self, List.mem_cons_self⟩
    · have d : p x = false := by simpa using c
      have d' : q y = false := e.symm.trans d
      rcases F2_find hp h2 with ⟨f1, f2⟩ | ⟨x', y', f1, f2, f3, f4, f5⟩
      · exact .inl ⟨by rw [List.find?_cons, d]; exact f1, by rw [List.find?_cons, d']; exact f2⟩
      · exact .inr ⟨x', y', by rw [List.find?_cons, d]; exact f1, by rw [List.find?_cons, d']; exact f2, f3, List.mem_cons_of_mem _ f4, List.mem_cons_of_mem _ f5⟩
theorem fol_lp {N : Nat} {μ : mS} : ∀ (l : List Int32) (n : Nat) (x : Int32), l.length < n → seg (sI μ 36) x l (-1) → (∀ e, e ∈ l → 0 ≤ e ∧ e < 20000) → mm_following_55 N n x μ = mm_following_78 N ((l.find? (alm μ)).getD (-1)) μ
  | [], n, x, hn, hs, _ => by
    obtain ⟨n, rfl⟩ : ∃ j, n = j + 1 := ⟨n - 1, by simp at hn; omega⟩
    have : x = -1 := hs
    subst this
    rw [mm_following_55, if_pos (by decide)]; rfl
  | y :: l, n, x, hn, hs, hr => by
    obtain ⟨n, rfl⟩ : ∃ j, n = j + 1 := ⟨n - 1, by simp at hn; omega⟩
    obtain ⟨rfl, hs'⟩ := hs
    obtain ⟨x0, x1⟩ := hr x List.mem_cons_self
    have ih := fol_lp (N := N) l n (sI μ 36 x) (by simp at hn; omega) hs' (fun e he => hr e (List.mem_cons_of_mem _ he))
    rw [mm_following_55, if_neg (Int32.not_lt.mpr x0), gd_in (by decide) x0 x1]
    by_cases c : sI μ 34 x = 0
    · have : alm μ x = false := by simp [alm, c]
      rw [sI_fold, if_pos c, gd_in (by decide) x0 x1, List.find?_cons, this]
      exact ih
    · have : alm μ x = true := by simp [alm, c]
      rw [sI_fold, if_neg c, List.find?_cons, this]; rfl
/-- the same entry, or none -/
def NO (w : WD) (σ μ : mS) (r c : Int32) : Prop := (r = -1 ∧ c = -1) ∨ ((0 ≤ r ∧ r < 20000) ∧ (0 ≤ c ∧ c < 20000) ∧ ER w σ μ r c ∧ sI σ 214 r ≠ 0)
theorem NO_of {w : WD} {σ μ : mS} {l m : List Int32} (f : F2 (ER w σ μ) l m) (hl : ∀ e, e ∈ l → 0 ≤ e ∧ e < 20000) (hm : ∀ e, e ∈ m → 0 ≤ e ∧ e < 20000) : NO w σ μ ((l.find? (alv σ)).getD (-1)) ((m.find? (alm μ)).getD (-1)) := by
  rcases F2_find (fun x y h => alv_alm h) f with ⟨f1, f2⟩ | ⟨x, y, f1, f2, f3, f4, f5⟩
  · rw [f1, f2]; exact .inl ⟨rfl, rfl⟩
  · have q := List.find?_some f1
    rw [f1, f2]
    exact .inr ⟨hl x f4, hm y f5, f3, by simpa [alv] using q⟩
theorem next_2 {N : Nat} (hN : BIG ≤ N) {w : WD} {σ μ : mS} {es es' : Int32 → List Int32} {a b : Int32} (R : RT w σ μ es es') (h : (a, b) ∈ wT w) : ∃ r c, xx3_next N σ a (-1) = some (r, σ) ∧ mm_following_55 N N (sI μ 21 b) μ = mm_following_78 N c μ ∧ NO w σ μ r c := by
  obtain ⟨⟨ps, hs, ff, fh, M⟩, _, ⟨ps', MM'⟩, _, E⟩ := R
  obtain ⟨f2, _, _⟩ := E a b h
  obtain ⟨b0, b1, sg, _, nd, _⟩ := MM'.2.2.2.1 b (tM_mem h)
  have rg : ∀ x, x ∈ es a → 0 ≤ x ∧ x < 20000 := fun x hx => ⟨(M.1.1 a (tX_mem h) x hx).1, (M.1.1 a (tX_mem h) x hx).2.1⟩
  have rg' : ∀ x, x ∈ es' b → 0 ≤ x ∧ x < 20000 := fun x hx => ⟨(MM'.1.1 b (tM_mem h) x hx).1, (MM'.1.1 b (tM_mem h) x hx).2.1⟩
  have len := nd_len (M := 20000) _ nd (fun x hx => ⟨(rg' x hx).1, by have := (rg' x hx).2; rw [tI_lt] at this; exact this⟩)
  exact ⟨_, _, next_x0 hN M (tX_mem h), fol_lp (es' b) N _ (by simp only [BIG] at hN; omega) sg rg', NO_of f2 rg rg'⟩
theorem next_3 {N : Nat} (hN : BIG ≤ N) {w : WD} {σ μ : mS} {es es' : Int32 → List Int32} {a b kx km : Int32} {vx vm : Int64} (W : WOK w) (S : RS w σ μ) (R : RT w σ μ es es') (h : (a, b) ∈ wT w) (k : VV w kx vx km vm) (k0 : kx ≠ 0) : ∃ e e', xx3_find N σ a kx vx = some (e, σ) ∧ mm_find N μ b km vm = some (e', μ) ∧ ((e = -1 ∧ e' = -1) ∨ (e ≠ -1 ∧ 0 ≤ e' ∧ e' < 20000 ∧ ∃ r c, xx3_next N σ a e = some (r, σ) ∧ mm_following_55 N N (sI μ 36 e') μ = mm_following_78 N c μ ∧ NO w σ μ r c)) := by
  obtain ⟨⟨ps, hs, ff, fh, M⟩, _, ⟨ps', MM'⟩, _, E⟩ := R
  obtain ⟨f2, _, _⟩ := E a b h
  obtain ⟨ok, mok⟩ := VV_ok S k k0 (VV_8 k)
  obtain ⟨b0, b1, sg, _, nd, _⟩ := MM'.2.2.2.1 b (tM_mem h)
  have rg : ∀ x, x ∈ es a → 0 ≤ x ∧ x < 20000 := fun x hx => ⟨(M.1.1 a (tX_mem h) x hx).1, (M.1.1 a (tX_mem h) x hx).2.1⟩
  have rg' : ∀ x, x ∈ es' b → 0 ≤ x ∧ x < 20000 := fun x hx => ⟨(MM'.1.1 b (tM_mem h) x hx).1, (MM'.1.1 b (tM_mem h) x hx).2.1⟩
  have len := nd_len (M := 20000) _ nd (fun x hx => ⟨(rg' x hx).1, by have := (rg' x hx).2; rw [tI_lt] at this; exact this⟩)
  obtain ⟨r, r1, r2⟩ := find_x hN (RS_dst S) M.1 (tX_mem h) ok
  obtain ⟨s, s1, s2⟩ := find_m hN MM'.1 (tM_mem h) mok
  refine ⟨r, s, r1, s1, ?_⟩
  rcases r2 with ⟨a1, a2⟩ | ⟨a1, a2⟩
  · obtain ⟨A, B, hAB⟩ := List.append_of_mem a1
    obtain ⟨A', e', B', hm, he, fA, fB⟩ := F2_at f2 A r B hAB
    have em : e' ∈ es' b := by rw [hm]; simp
    have q := (VV_eq W S he.1 k).mp a2
    have se : s = e' := by
      rcases s2 with ⟨c1, c2⟩ | ⟨c1, c2⟩
      · exact MM'.1.2.2 b (tM_mem h) s e' c1 em (by
          have := mkeq_tr c2 (mkeq_sym q)
          exact this)
      · exact absurd q (c2 e' em)
    subst se
    have rr := rg r a1
    have sr := rg' s em
    rw [hm, seg_app] at sg
    obtain ⟨m, g1, g2⟩ := sg
    rw [hm] at len
    simp only [List.length_append, List.length_cons] at len
    refine .inr ⟨by lia, sr.1, sr.2, _, _, next_x hN M (tX_mem h) hAB, fol_lp B' N _ (by simp only [BIG] at hN; omega) g2.2 (fun x hx => rg' x (by rw [hm]; simp [hx])), NO_of fB (fun x hx => rg x (by rw [hAB]; simp [hx])) (fun x hx => rg' x (by rw [hm]; simp [hx]))⟩
  · rcases s2 with ⟨c1, c2⟩ | ⟨c1, c2⟩
    · obtain ⟨x, x1, x2⟩ := F2_r f2 s c1
      exact absurd ((VV_eq W S x2.1 k).mpr c2) (a2 x x1)
    · exact .inl ⟨a1, c1⟩
/-- what is given then -/
theorem NO_L {L : LQ} {w : WD} {σ μ : mS} {r c a x : Int32} (H : LC L w 0 σ μ) (o : NO w σ μ r c) (hx : xx3_next (lNn L) σ a x = some (r, σ)) : LO L w (xx8_next_b54 (lNn L) a x σ) (mm_following_78 (lNn L) c μ) := by
  rw [xx8_next_b54, hx, bd_so]
  dsimp only
  rcases o with ⟨rfl, rfl⟩ | ⟨⟨r0, r1⟩, ⟨c0, c1⟩, e, e0⟩
  · obtain ⟨τ, τm, b1, b2, b3, _⟩ := give_L (N := lNn L) H (by decide) VV_nil
    rw [if_pos rfl, mm_following_78, if_neg (by decide), xx8_giveNil, b1, b2, bx_so, bx_so, bd_so, xx8_next_b112, mm_following_123]
    exact LO_ok b3
  · obtain ⟨τ, τm, b1, b2, b3, b4, b5⟩ := give_L (N := lNn L) H (by decide) e.1
    have z : sI μ 34 c ≠ 0 := fun q => e0 ((VV_tag e.2.1).2.2.2.2.1.mpr q)
    obtain ⟨τ', τm', d1, d2, d3, _⟩ := entry_L (N := lNn L) (r := r) (c := sI μ 34 c) (d := sJ μ 35 c) b3 (by decide) (.inr ⟨r0, r1, by rw [mf_I b4 rfl]; exact e0, z, by rw [mf_I b4 rfl, mf_J b4 rfl]; exact e.2.1⟩)
    have f1 : sI τm 34 c = sI μ 34 c := mf_I b5 rfl
    have f2 : sJ τm 35 c = sJ μ 35 c := mf_J b5 rfl
    rw [if_neg (by lia), mm_following_78, if_pos c0]
    simp only [sI_fold, sJ_fold]
    rw [gd_in (by decide) r0 r1, gd_in (by decide) r0 r1, gd_in (by decide) c0 c1, gd_in (by decide) c0 c1, xx8_give, b1, b2, bx_so, bx_so, bd_so, gd_in (by decide) c0 c1, gd_in (by decide) c0 c1, f1, f2, d1, d2, bx_so, bd_so, xx8_next_b112, mm_following_123]
    exact LO_ok d3
theorem raw_12 {N : Nat} {z : mS} : mm_raw N z 12 = bd (mm_isOf N z 1 4 12) (fun z11 => bd (mm_unless N z11.2 z11.1) (fun z12 => if sF z12 227 = 0 then bd (mm_valueOf N z12 1) (fun z13 => bd (mm_following N z13.2 (Int64.toInt32 z13.1)) (fun z31 => mm_raw_413 N z31)) else some z12)) := rfl
theorem plain_12 {N : Nat} {z : mS} : xx8_plain N z 12 = bx (xx8_next N z) (fun z48 => xx8_plain_b465 N z48) := rfl
theorem LO_end {L : LQ} {w : WD} {ox : Option (Except (Nat × mS) mS)} {om : Option mS} (H : LO L w ox om) {f : mS → Option (Except (Nat × mS) mS)} {k : mS → Option mS} (hf : ∀ z, f z = some (.ok z)) (hk : ∀ z, k z = some z) : LO L w (bx ox f) (bd om k) := by
  have e1 : f = fun z => some (.ok z) := funext hf
  have e2 : k = fun z => some z := funext hk
  subst e1 e2
  rw [bx_ok, bd_id]; exact H
theorem lib_next {L : LQ} (E : EVok (lE L)) {w : WD} {σ μ : mS} (H : LC L w 0 σ μ) (hl : lB L = 12) : LO L w (xx8_plain (lNn L) σ 12) (mm_raw (lNn L) μ 12) := by
  have hl' : (12 : Int32) = Int32.ofNat (lB L) := by rw [hl]; rfl
  obtain ⟨es, es', R⟩ := H.1.1.1.1.1.2.2.1
  have W := H.1.1.1.1.1.1
  have S := H.1.1.1.1.1.2.1
  rw [plain_12, raw_12, xx8_next, bx_bx]
  refine (tab_L E H (i := 1) (by decide) (by decide) hl' (fun z => ⟨md_pi z 227 1, ?_, u227⟩)).elim (fun ⟨a, b, hab, a1, a2, a3, a4, a5, a6⟩ => ?_) (fun o => .inr o)
  · simp only [unless_0, bd_so, bx_so, bd_bd, lt, gd_z1, gd_z0, sF_fold, sF_pi, if_true, i10, if_false, ite_true, ite_false]
  have tl := tag_L (N := lNn L) H (i := 2) (by decide)
  have tm := tag_M (N := lNn L) H (i := 2) (by decide) (by decide)
  have t := VV_t (arg_V H (i := 2) (by decide))
  have rb := (RT_rng R hab).2.2
  rw [a5, a6, bx_so, bd_so]
  dsimp only
  rw [unless_1 (L_227 H), bd_so]
  simp only [L_227 H, if_true]
  rw [(tag_M H (i := 1) (by decide) (by decide)).2, bd_so, a4, h_ll, tl.1, bd_so]
  dsimp only
  refine LO_end ?_ (fun z => rfl) (fun z => rfl)
  rw [mm_following, gd_in (by decide) rb.1 rb.2, lt, tm.1, bd_so]
  dsimp only
  by_cases c : aT σ 2 = 0
  · rw [if_pos c, if_pos (t.1.mp c)]
    obtain ⟨r, d, n1, n2, n3⟩ := next_2 (N := lNn L) (EV_N E) R hab
    simp only [sI_fold]
    rw [n2]
    exact NO_L H n3 n1
  · have k := arg_V' H (i := 2) (by decide) (arg_n H c)
    obtain ⟨e, e', f1, f2, o⟩ := next_3 (N := lNn L) (EV_N E) W S R hab k c
    rw [if_neg c, if_neg (fun q => c (t.1.mpr q)), tl.1, tm.1, bd_so, bd_so]
    dsimp only
    rw [tl.2, tm.2, bd_so, bd_so]
    dsimp only
    rw [f1, f2, bd_so, bd_so]
    dsimp only
    rcases o with ⟨rfl, rfl⟩ | ⟨o1, o2, o3, r, d, n1, n2, n3⟩
    · rw [if_pos rfl, if_neg (by decide), gd_z1, lt, bd_id]
      exact .inr (fault_L E H.1 (t := 112) (tm := 38) (by decide) (by decide) tx_112 (by decide +kernel))
    · rw [if_neg o1, if_pos o2, gd_in (by decide) o2 o3, lt]
      simp only [sI_fold]
      rw [n2]
      exact NO_L H n3 n1
