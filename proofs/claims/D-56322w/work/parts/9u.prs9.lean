set_option maxRecDepth 100000
set_option linter.unusedVariables false
theorem z_arg_a {k p p' : Nat} {r r' : List Nat} {c : Zc} (h : z_arg k r p = .inl (c, r', p')) : c.2.1.length + r'.length ≤ r.length := by
  unfold z_arg at h
  split at h
  · cases ht : z_tk z_ch r p with
    | inr q => rw [ht] at h; cases h
    | inl x =>
      rw [ht] at h
      obtain ⟨d, r1, p1⟩ := x
      obtain ⟨rfl, rfl, hd⟩ := z_tk_d ht
      cases h
      have hs := congrArg List.length (z_spn_d z_ch r1).1
      rw [List.length_append] at hs
      simp only [List.length_cons]
      omega
  split at h
  · cases ht : z_tk z_sgb r p with
    | inr q => rw [ht] at h; cases h
    | inl x =>
      rw [ht] at h
      obtain ⟨d, r1, p1⟩ := x
      obtain ⟨rfl, rfl, hd⟩ := z_tk_d ht
      dsimp only at h
      cases ht2 : z_tk z_dg r1 (p + 1) with
      | inr q => rw [ht2] at h; cases h
      | inl x =>
        rw [ht2] at h
        obtain ⟨d2, r2, p2⟩ := x
        obtain ⟨rfl, rfl, hd2⟩ := z_tk_d ht2
        cases h
        simp only [List.length_cons, List.length_nil]
        omega
  split at h
  · cases ht : z_tk z_op r p with
    | inr q => rw [ht] at h; cases h
    | inl x =>
      rw [ht] at h
      obtain ⟨d, r1, p1⟩ := x
      obtain ⟨rfl, rfl, hd⟩ := z_tk_d ht
      dsimp only at h
      cases ht2 : z_tk z_mng r1 (p + 1) with
      | inr q => rw [ht2] at h; cases h
      | inl x =>
        rw [ht2] at h
        obtain ⟨d2, r2, p2⟩ := x
        obtain ⟨rfl, rfl, hd2⟩ := z_tk_d ht2
        cases h
        simp only [List.length_cons, List.length_nil]
        omega
  split at h
  · cases ht : z_tk z_dg r p with
    | inr q => rw [ht] at h; cases h
    | inl x =>
      rw [ht] at h
      obtain ⟨d, r1, p1⟩ := x
      obtain ⟨rfl, rfl, hd⟩ := z_tk_d ht
      cases h
      simp only [List.length_cons, List.length_nil]
      omega
  · cases ht : z_tk z_skc r p with
    | inr q => rw [ht] at h; cases h
    | inl x =>
      rw [ht] at h
      obtain ⟨d, r1, p1⟩ := x
      obtain ⟨rfl, rfl, hd⟩ := z_tk_d ht
      cases h
      simp only [List.length_cons, List.length_nil]
      omega
theorem z_cmd_a {p p' : Nat} {r r' : List Nat} {c : Zc} (h : z_cmd r p = .inl (c, r', p')) : c.2.1.length + r'.length ≤ r.length := by
  unfold z_cmd at h
  cases hw : z_rdw r 0 p with
  | inr q => rw [hw] at h; cases h
  | inl x =>
    rw [hw] at h
    obtain ⟨k, r1, p1⟩ := x
    obtain ⟨g1, g2, g3, -⟩ := z_rdw_d (buf := r) r 0 p k p1 r1 (by omega) hw
    rw [show (z_pre 0).length = 0 from rfl] at g2
    dsimp only at h
    split at h
    · cases h
      simp only [List.length_nil]
      omega
    · cases ht : z_tk (fun c => decide (c = 32)) r1 p1 with
      | inr q => rw [ht] at h; cases h
      | inl x =>
        rw [ht] at h
        obtain ⟨d, r2, p2⟩ := x
        obtain ⟨rfl, rfl, hd⟩ := z_tk_d ht
        have := z_arg_a h
        simp only [List.length_cons] at g3
        omega
/-- what follows a command -/
def z_more (f : Nat) : List Nat → Nat → List Zc ⊕ Nat
  | [], _ => .inl []
  | d :: r, p => if d = 59 then z_txt f r (p + 1) else .inr p
theorem z_txt_s (f : Nat) (r : List Nat) (p : Nat) : z_txt (f + 1) r p = match z_cmd r p with
    | .inr q => .inr q
    | .inl (c, r1, p1) => match z_more f r1 p1 with
      | .inr q => .inr q
      | .inl l => .inl (c :: l) := by
  rw [z_txt]
  cases z_cmd r p with
  | inr q => rfl
  | inl y =>
    obtain ⟨c, r1, p1⟩ := y
    cases r1 with
    | nil => rfl
    | cons d r2 =>
      dsimp only [z_more]
      by_cases h : d = 59
      · rw [if_pos h, if_pos h]
        cases z_txt f r2 (p1 + 1) <;> rfl
      · rw [if_neg h, if_neg h]
section PRSI
variable {Ev : rb_E} {h h0 h1 h' : AH} {n n0 n1 o m x p pe b bv q v w wv wq co cap hd sh pos S lo hi N l arr : Nat} {L A B buf cs : List Nat} {st : Zst} {β : Type} {P : β → Prop} {z : Zs}
/-- a text that is being read -/
def TI (Ev : rb_E) (n0 : Nat) (h0 : AH) (x lo l pos n : Nat) (h : AH) (L : List Nat) (cl : List Zc) : Prop := PI Ev n0 h0 x pos n h ∧ n0 < l ∧ (∃ arr, AL Ev (rd Ev h) l arr L ∧ (L = [] ∨ n0 ≤ arr)) ∧ CHs Ev (rd Ev h) lo n L cl
/-- how reading a text ends -/
def TQ (Ev : rb_E) (n0 : Nat) (h0 : AH) (x lo l n : Nat) (K S : Nat) (cl : List Zc) (zr : List Zc ⊕ Nat) : (Nat ⊕ (String × Nat)) → AH → Nat → Nat → Prop := fun res h' k s => k ≤ K ∧ s ≤ S ∧ match zr with
    | .inl l2 => .inl l = res ∧ ∃ pos' L', TI Ev n0 h0 x lo l pos' (n + k) h' L' (cl ++ l2)
    | .inr q => SFq Ev n0 h0 n q res h' k s
theorem CHs.up {w : Nat → Option va_E} : ∀ {L : List Nat} {l : List Zc} {lo hi hi' : Nat}, CHs Ev w lo hi L l → hi ≤ hi' → CHs Ev w lo hi' L l
  | [], [], lo, hi, hi', h1, h2 => Nat.le_trans h1 h2
  | a :: L, c :: l, lo, hi, hi', h1, h2 => by
    obtain ⟨m, g1, g2⟩ := h1
    exact ⟨m, g1, g2.up h2⟩
  | [], c :: l, lo, hi, hi', h1, h2 => h1.elim
  | a :: L, [], lo, hi, hi', h1, h2 => h1.elim
theorem CHs.lw {w : Nat → Option va_E} : ∀ {L : List Nat} {l : List Zc} {lo hi : Nat}, CHs Ev w lo hi L l → lo ≤ hi
  | [], [], lo, hi, h1 => h1
  | a :: L, c :: l, lo, hi, h1 => by
    obtain ⟨m, ⟨wq, wv, cq, cv, -, -, -, -, -, -, -, -, -, g1⟩, g2⟩ := h1
    have := g2.lw
    omega
  | [], c :: l, lo, hi, h1 => h1.elim
  | a :: L, [], lo, hi, h1 => h1.elim
theorem AL.fr {M : List Nat} (t : AL Ev (rd Ev h) l arr L) (D : Dm Ev n h) (F : Frm Ev n M h h') (h1 : l ∉ M) (h2 : arr ∉ M) : AL Ev (rd Ev h') l arr L := by
  obtain ⟨e, ht⟩ := t
  refine ⟨F.get (D.lt e) h1 e, ?_⟩
  rcases ht with ⟨g1, g2, g3⟩ | ⟨g1, g2, f, g3, g4⟩
  · exact Or.inl ⟨g1, g2, F.get (D.lt g3) h2 g3⟩
  · exact Or.inr ⟨g1, g2, f, F.get (D.lt g3) h2 g3, g4⟩
theorem AL.oth (t : AL Ev (rd Ev h) l arr L) : (∃ e, rd Ev h l = some e ∧ Oth e) ∧ ∃ e, rd Ev h arr = some e ∧ Oth e := by
  obtain ⟨e, ht⟩ := t
  refine ⟨⟨_, e, Or.inl ⟨27, _, rfl, by decide, by decide⟩⟩, ?_⟩
  rcases ht with ⟨g1, g2, g3⟩ | ⟨g1, g2, f, g3, g4⟩
  · exact ⟨_, g3, Or.inr ⟨_, _, _, rfl⟩⟩
  · exact ⟨_, g3, Or.inr ⟨_, _, _, rfl⟩⟩
theorem AL.nep (t : AL Ev (rd Ev h) l arr L) {y z : Value} (e : rd Ev h n0 = some (.inr (11, [y, z]))) : n0 ≠ l ∧ n0 ≠ arr := by
  obtain ⟨e1, ht⟩ := t
  constructor
  · rintro rfl; rw [e] at e1; cases e1
  · rintro rfl
    rcases ht with ⟨g1, g2, g3⟩ | ⟨g1, g2, f, g3, g4⟩
    · rw [e] at g3; cases g3
    · rw [e] at g3; cases g3
/-- a command is read and put behind the others -/
theorem x13_add1 (hp : rb_pf Ev) (D : Dm Ev n h) {cl : List Zc} {c : Zc} {a : Nat} (hlo : lo ≤ m) (hmn : m ≤ n) (P : PI Ev n0 h0 x pos n h) (hnl : n0 < l) (t : AL Ev (rd Ev h) l arr L) (hrr : L = [] ∨ n0 ≤ arr) (h10 : L.length < 10) (hc : CHs Ev (rd Ev h) lo m L cl) (ho : CO Ev (rd Ev h) m a c) : Sp Ev (f_J27_add Ev h n l a) n (if L = [] then [l] else [l, arr]) h (fun _ h' k s => k ≤ 1 ∧ s ≤ 10 ∧ TI Ev n0 h0 x lo l pos (n + k) h' (L ++ [a]) (cl ++ [c])) := by
  have hO := P.2.2.2.1
  obtain ⟨wq, wv, cq, cv, ea, -⟩ := id ho
  obtain ⟨r, hr, D1, F1, hk, hs, arr', t', hge'⟩ := j27_add hp D (hO l (by omega)) t h10 ea
  have hM : ∀ b ∈ (if L = [] then [l] else [l, arr]), ∃ e, rd Ev h b = some e ∧ Oth e := by
    intro b hb
    split at hb
    · rw [List.mem_singleton] at hb
      rw [hb]; exact t.oth.1
    · simp only [List.mem_cons, List.not_mem_nil, or_false] at hb
      rcases hb with rfl | rfl
      · exact t.oth.1
      · exact t.oth.2
  have hne := t.nep P.2.2.2.2
  have hn0 : n0 ∉ (if L = [] then [l] else [l, arr]) := by
    split
    · simp only [List.mem_singleton]; exact hne.1
    · simp only [List.mem_cons, List.not_mem_nil, or_false, not_or]; exact hne
  have hge : ∀ b ∈ (if L = [] then [l] else [l, arr]), n0 ≤ b ∨ b ∈ ([] : List Nat) := by
    intro b hb
    split at hb
    · rw [List.mem_singleton] at hb; left; omega
    · next hL =>
      simp only [List.mem_cons, List.not_mem_nil, or_false] at hb
      rcases hb with rfl | rfl
      · left; omega
      · left
        exact hrr.resolve_left hL
  refine ⟨r, hr, D1, F1, hk, hs, ⟨D1, Frm.tr P.2.1 F1 (by have := P.2.2.1; omega) hge, by have := P.2.2.1; omega, hO, F1.get P.2.2.1 hn0 P.2.2.2.2⟩, hnl, ⟨arr', t', Or.inr ?_⟩, ?_⟩
  · rcases hge' with h9 | ⟨h9, h8⟩
    · have := P.2.2.1; omega
    · rw [h8]; exact hrr.resolve_left h9
  · exact (hc.oth D F1 hM).snoc (ho.oth D F1 hM) (by omega) (fun q e hq => D1.lt hq)
theorem x13_text_l (hp : rb_pf Ev) (hb : PB Ev h0 n0 x buf) : ∀ (f : Nat) (r : List Nat) (pos n : Nat) (h : AH) (L : List Nat) (cl : List Zc) (fu : Nat), buf.drop pos = r → pos ≤ buf.length → r.length ≤ f → r.length < fu → 6 * L.length + r.length ≤ 61 → TI Ev n0 h0 x lo l pos n h L cl → Ok (f_X13_text_l19_43 Ev n0 l fu h n) (Pm 0 0 (TQ Ev n0 h0 x lo l n (40 * r.length + 190) (1160 * r.length + 4300) cl (z_more f r pos))) := by
  intro f
  induction f with
  | zero =>
    intro r pos n h L cl fu hd hps hrf hf hL T
    cases fu with
    | zero => omega
    | succ fu =>
      have hr0 : r = [] := List.length_eq_zero_iff.mp (by omega)
      subst hr0
      obtain ⟨P, hnl, ⟨arr, tl, hrr⟩, hc⟩ := id T
      obtain ⟨sh, p, b, bv, cap, co, ml, rest, ex, tb, hx0, hb0, hv0⟩ := hb.get P
      have tb0 := tb
      obtain ⟨f', hm, e1, e2, -⟩ := tb
      have hl60 := hb.2.1
      have eo := P.2.2.2.2
      unfold f_X13_text_l19_43
      (repeat (first | ((with_reducible apply ok_i); (focus ((repeat (first | (with_reducible assumption) | (with_reducible exact rd_self _ _ _ _) | (with_reducible refine rd_ne (by omega) ?_) | (with_reducible refine Frm.get (by with_reducible assumption) (by omega) (by (simp only [List.mem_cons, List.not_mem_nil, or_false, not_or, not_false_eq_true]; (first | done | omega))) ?_))); done)); exact rfl) | ((with_reducible apply ok_p); (focus ((repeat (first | (with_reducible assumption) | (with_reducible exact rd_self _ _ _ _) | (with_reducible refine rd_ne (by omega) ?_) | (with_reducible refine Frm.get (by with_reducible assumption) (by omega) (by (simp only [List.mem_cons, List.not_mem_nil, or_false, not_or, not_false_eq_true]; (first | done | omega))) ?_))); done)); exact rfl) | ((with_reducible apply ok_k); (focus ((repeat (first | (with_reducible assumption) | (with_reducible exact rd_self _ _ _ _) | (with_reducible refine rd_ne (by omega) ?_) | (with_reducible refine Frm.get (by with_reducible assumption) (by omega) (by (simp only [List.mem_cons, List.not_mem_nil, or_false, not_or, not_false_eq_true]; (first | done | omega))) ?_))); done))) | ((with_reducible apply ok_len); (focus ((repeat (first | (with_reducible assumption) | (with_reducible exact rd_self _ _ _ _) | (with_reducible refine rd_ne (by omega) ?_) | (with_reducible refine Frm.get (by with_reducible assumption) (by omega) (by (simp only [List.mem_cons, List.not_mem_nil, or_false, not_or, not_false_eq_true]; (first | done | omega))) ?_))); done))) | (with_reducible apply ok_lt) | (with_reducible apply ok_ad) | ((with_reducible apply ok_put); (first | (with_reducible assumption) | exact D.ow (by omega) | exact hO _ (by omega)); (focus ((repeat (first | (with_reducible assumption) | (with_reducible exact rd_self _ _ _ _) | (with_reducible refine rd_ne (by omega) ?_) | (with_reducible refine Frm.get (by with_reducible assumption) (by omega) (by (simp only [List.mem_cons, List.not_mem_nil, or_false, not_or, not_false_eq_true]; (first | done | omega))) ?_))); done)); exact Nat.le_of_ble_eq_true rfl) | ((with_reducible apply ok_cls); (focus ((repeat (first | (with_reducible assumption) | (with_reducible exact rd_self _ _ _ _) | (with_reducible refine rd_ne (by omega) ?_) | (with_reducible refine Frm.get (by with_reducible assumption) (by omega) (by (simp only [List.mem_cons, List.not_mem_nil, or_false, not_or, not_false_eq_true]; (first | done | omega))) ?_))); done))) | ((with_reducible apply ok_ca); (focus ((repeat (first | (with_reducible assumption) | (with_reducible exact rd_self _ _ _ _) | (with_reducible refine rd_ne (by omega) ?_) | (with_reducible refine Frm.get (by with_reducible assumption) (by omega) (by (simp only [List.mem_cons, List.not_mem_nil, or_false, not_or, not_false_eq_true]; (first | done | omega))) ?_))); done)); exact (by decide)) | ((with_reducible apply ok_isa1); (focus ((repeat (first | (with_reducible assumption) | (with_reducible exact rd_self _ _ _ _) | (with_reducible refine rd_ne (by omega) ?_) | (with_reducible refine Frm.get (by with_reducible assumption) (by omega) (by (simp only [List.mem_cons, List.not_mem_nil, or_false, not_or, not_false_eq_true]; (first | done | omega))) ?_))); done)); exact (by decide)) | ((with_reducible apply ok_isa0); (focus ((repeat (first | (with_reducible assumption) | (with_reducible exact rd_self _ _ _ _) | (with_reducible refine rd_ne (by omega) ?_) | (with_reducible refine Frm.get (by with_reducible assumption) (by omega) (by (simp only [List.mem_cons, List.not_mem_nil, or_false, not_or, not_false_eq_true]; (first | done | omega))) ?_))); done)); exact (by decide); exact (by decide)) | ((with_reducible apply ok_oS); (focus ((repeat (first | (with_reducible assumption) | (with_reducible exact rd_self _ _ _ _) | (with_reducible refine rd_ne (by omega) ?_) | (with_reducible refine Frm.get (by with_reducible assumption) (by omega) (by (simp only [List.mem_cons, List.not_mem_nil, or_false, not_or, not_false_eq_true]; (first | done | omega))) ?_))); done)); exact rfl) | ((with_reducible apply ok_oN); (focus ((repeat (first | (with_reducible assumption) | (with_reducible exact rd_self _ _ _ _) | (with_reducible refine rd_ne (by omega) ?_) | (with_reducible refine Frm.get (by with_reducible assumption) (by omega) (by (simp only [List.mem_cons, List.not_mem_nil, or_false, not_or, not_false_eq_true]; (first | done | omega))) ?_))); done)); exact rfl) | ((with_reducible apply ok_j); (focus ((repeat (first | (with_reducible assumption) | (with_reducible exact rd_self _ _ _ _) | (with_reducible refine rd_ne (by omega) ?_) | (with_reducible refine Frm.get (by with_reducible assumption) (by omega) (by (simp only [List.mem_cons, List.not_mem_nil, or_false, not_or, not_false_eq_true]; (first | done | omega))) ?_))); done)); exact rfl)))
      refine ok_eq (j1_length tb0) ?_
      refine ok_pos (nI_le (drop_nil' hd) (by omega)) ?_
      refine ok_end ⟨by omega, by omega, rfl, pos, L, ?_⟩
      rw [List.append_nil]
      exact T
  | succ f ih =>
    intro r pos n h L cl fu hd hps hrf hf hL T
    cases fu with
    | zero => omega
    | succ fu =>
      obtain ⟨P, hnl, ⟨arr, tl, hrr⟩, hc⟩ := id T
      obtain ⟨sh, p, b, bv, cap, co, ml, rest, ex, tb, hx0, hb0, hv0⟩ := hb.get P
      have tb0 := tb
      obtain ⟨f', hm, e1, e2, -⟩ := tb
      have hl60 := hb.2.1
      have eo := P.2.2.2.2
      unfold f_X13_text_l19_43
      (repeat (first | ((with_reducible apply ok_i); (focus ((repeat (first | (with_reducible assumption) | (with_reducible exact rd_self _ _ _ _) | (with_reducible refine rd_ne (by omega) ?_) | (with_reducible refine Frm.get (by with_reducible assumption) (by omega) (by (simp only [List.mem_cons, List.not_mem_nil, or_false, not_or, not_false_eq_true]; (first | done | omega))) ?_))); done)); exact rfl) | ((with_reducible apply ok_p); (focus ((repeat (first | (with_reducible assumption) | (with_reducible exact rd_self _ _ _ _) | (with_reducible refine rd_ne (by omega) ?_) | (with_reducible refine Frm.get (by with_reducible assumption) (by omega) (by (simp only [List.mem_cons, List.not_mem_nil, or_false, not_or, not_false_eq_true]; (first | done | omega))) ?_))); done)); exact rfl) | ((with_reducible apply ok_k); (focus ((repeat (first | (with_reducible assumption) | (with_reducible exact rd_self _ _ _ _) | (with_reducible refine rd_ne (by omega) ?_) | (with_reducible refine Frm.get (by with_reducible assumption) (by omega) (by (simp only [List.mem_cons, List.not_mem_nil, or_false, not_or, not_false_eq_true]; (first | done | omega))) ?_))); done))) | ((with_reducible apply ok_len); (focus ((repeat (first | (with_reducible assumption) | (with_reducible exact rd_self _ _ _ _) | (with_reducible refine rd_ne (by omega) ?_) | (with_reducible refine Frm.get (by with_reducible assumption) (by omega) (by (simp only [List.mem_cons, List.not_mem_nil, or_false, not_or, not_false_eq_true]; (first | done | omega))) ?_))); done))) | (with_reducible apply ok_lt) | (with_reducible apply ok_ad) | ((with_reducible apply ok_put); (first | (with_reducible assumption) | exact D.ow (by omega) | exact hO _ (by omega)); (focus ((repeat (first | (with_reducible assumption) | (with_reducible exact rd_self _ _ _ _) | (with_reducible refine rd_ne (by omega) ?_) | (with_reducible refine Frm.get (by with_reducible assumption) (by omega) (by (simp only [List.mem_cons, List.not_mem_nil, or_false, not_or, not_false_eq_true]; (first | done | omega))) ?_))); done)); exact Nat.le_of_ble_eq_true rfl) | ((with_reducible apply ok_cls); (focus ((repeat (first | (with_reducible assumption) | (with_reducible exact rd_self _ _ _ _) | (with_reducible refine rd_ne (by omega) ?_) | (with_reducible refine Frm.get (by with_reducible assumption) (by omega) (by (simp only [List.mem_cons, List.not_mem_nil, or_false, not_or, not_false_eq_true]; (first | done | omega))) ?_))); done))) | ((with_reducible apply ok_ca); (focus ((repeat (first | (with_reducible assumption) | (with_reducible exact rd_self _ _ _ _) | (with_reducible refine rd_ne (by omega) ?_) | (with_reducible refine Frm.get (by with_reducible assumption) (by omega) (by (simp only [List.mem_cons, List.not_mem_nil, or_false, not_or, not_false_eq_true]; (first | done | omega))) ?_))); done)); exact (by decide)) | ((with_reducible apply ok_isa1); (focus ((repeat (first | (with_reducible assumption) | (with_reducible exact rd_self _ _ _ _) | (with_reducible refine rd_ne (by omega) ?_) | (with_reducible refine Frm.get (by with_reducible assumption) (by omega) (by (simp only [List.mem_cons, List.not_mem_nil, or_false, not_or, not_false_eq_true]; (first | done | omega))) ?_))); done)); exact (by decide)) | ((with_reducible apply ok_isa0); (focus ((repeat (first | (with_reducible assumption) | (with_reducible exact rd_self _ _ _ _) | (with_reducible refine rd_ne (by omega) ?_) | (with_reducible refine Frm.get (by with_reducible assumption) (by omega) (by (simp only [List.mem_cons, List.not_mem_nil, or_false, not_or, not_false_eq_true]; (first | done | omega))) ?_))); done)); exact (by decide); exact (by decide)) | ((with_reducible apply ok_oS); (focus ((repeat (first | (with_reducible assumption) | (with_reducible exact rd_self _ _ _ _) | (with_reducible refine rd_ne (by omega) ?_) | (with_reducible refine Frm.get (by with_reducible assumption) (by omega) (by (simp only [List.mem_cons, List.not_mem_nil, or_false, not_or, not_false_eq_true]; (first | done | omega))) ?_))); done)); exact rfl) | ((with_reducible apply ok_oN); (focus ((repeat (first | (with_reducible assumption) | (with_reducible exact rd_self _ _ _ _) | (with_reducible refine rd_ne (by omega) ?_) | (with_reducible refine Frm.get (by with_reducible assumption) (by omega) (by (simp only [List.mem_cons, List.not_mem_nil, or_false, not_or, not_false_eq_true]; (first | done | omega))) ?_))); done)); exact rfl) | ((with_reducible apply ok_j); (focus ((repeat (first | (with_reducible assumption) | (with_reducible exact rd_self _ _ _ _) | (with_reducible refine rd_ne (by omega) ?_) | (with_reducible refine Frm.get (by with_reducible assumption) (by omega) (by (simp only [List.mem_cons, List.not_mem_nil, or_false, not_or, not_false_eq_true]; (first | done | omega))) ?_))); done)); exact rfl)))
      refine ok_eq (j1_length tb0) ?_
      cases r with
      | nil =>
        refine ok_pos (nI_le (drop_nil' hd) (by omega)) ?_
        refine ok_end ⟨by omega, by omega, rfl, pos, L, ?_⟩
        rw [List.append_nil]
        exact T
      | cons d r2 =>
        simp only [List.length_cons] at hrf hf hL
        have hxx := drop_cons hd
        refine ok_neg (nI_ge hxx.2.2 (by omega)) ?_
        (repeat (first | ((with_reducible apply ok_i); (focus ((repeat (first | (with_reducible assumption) | (with_reducible exact rd_self _ _ _ _) | (with_reducible refine rd_ne (by omega) ?_) | (with_reducible refine Frm.get (by with_reducible assumption) (by omega) (by (simp only [List.mem_cons, List.not_mem_nil, or_false, not_or, not_false_eq_true]; (first | done | omega))) ?_))); done)); exact rfl) | ((with_reducible apply ok_p); (focus ((repeat (first | (with_reducible assumption) | (with_reducible exact rd_self _ _ _ _) | (with_reducible refine rd_ne (by omega) ?_) | (with_reducible refine Frm.get (by with_reducible assumption) (by omega) (by (simp only [List.mem_cons, List.not_mem_nil, or_false, not_or, not_false_eq_true]; (first | done | omega))) ?_))); done)); exact rfl) | ((with_reducible apply ok_k); (focus ((repeat (first | (with_reducible assumption) | (with_reducible exact rd_self _ _ _ _) | (with_reducible refine rd_ne (by omega) ?_) | (with_reducible refine Frm.get (by with_reducible assumption) (by omega) (by (simp only [List.mem_cons, List.not_mem_nil, or_false, not_or, not_false_eq_true]; (first | done | omega))) ?_))); done))) | ((with_reducible apply ok_len); (focus ((repeat (first | (with_reducible assumption) | (with_reducible exact rd_self _ _ _ _) | (with_reducible refine rd_ne (by omega) ?_) | (with_reducible refine Frm.get (by with_reducible assumption) (by omega) (by (simp only [List.mem_cons, List.not_mem_nil, or_false, not_or, not_false_eq_true]; (first | done | omega))) ?_))); done))) | (with_reducible apply ok_lt) | (with_reducible apply ok_ad) | ((with_reducible apply ok_put); (first | (with_reducible assumption) | exact D.ow (by omega) | exact hO _ (by omega)); (focus ((repeat (first | (with_reducible assumption) | (with_reducible exact rd_self _ _ _ _) | (with_reducible refine rd_ne (by omega) ?_) | (with_reducible refine Frm.get (by with_reducible assumption) (by omega) (by (simp only [List.mem_cons, List.not_mem_nil, or_false, not_or, not_false_eq_true]; (first | done | omega))) ?_))); done)); exact Nat.le_of_ble_eq_true rfl) | ((with_reducible apply ok_cls); (focus ((repeat (first | (with_reducible assumption) | (with_reducible exact rd_self _ _ _ _) | (with_reducible refine rd_ne (by omega) ?_) | (with_reducible refine Frm.get (by with_reducible assumption) (by omega) (by (simp only [List.mem_cons, List.not_mem_nil, or_false, not_or, not_false_eq_true]; (first | done | omega))) ?_))); done))) | ((with_reducible apply ok_ca); (focus ((repeat (first | (with_reducible assumption) | (with_reducible exact rd_self _ _ _ _) | (with_reducible refine rd_ne (by omega) ?_) | (with_reducible refine Frm.get (by with_reducible assumption) (by omega) (by (simp only [List.mem_cons, List.not_mem_nil, or_false, not_or, not_false_eq_true]; (first | done | omega))) ?_))); done)); exact (by decide)) | ((with_reducible apply ok_isa1); (focus ((repeat (first | (with_reducible assumption) | (with_reducible exact rd_self _ _ _ _) | (with_reducible refine rd_ne (by omega) ?_) | (with_reducible refine Frm.get (by with_reducible assumption) (by omega) (by (simp only [List.mem_cons, List.not_mem_nil, or_false, not_or, not_false_eq_true]; (first | done | omega))) ?_))); done)); exact (by decide)) | ((with_reducible apply ok_isa0); (focus ((repeat (first | (with_reducible assumption) | (with_reducible exact rd_self _ _ _ _) | (with_reducible refine rd_ne (by omega) ?_) | (with_reducible refine Frm.get (by with_reducible assumption) (by omega) (by (simp only [List.mem_cons, List.not_mem_nil, or_false, not_or, not_false_eq_true]; (first | done | omega))) ?_))); done)); exact (by decide); exact (by decide)) | ((with_reducible apply ok_oS); (focus ((repeat (first | (with_reducible assumption) | (with_reducible exact rd_self _ _ _ _) | (with_reducible refine rd_ne (by omega) ?_) | (with_reducible refine Frm.get (by with_reducible assumption) (by omega) (by (simp only [List.mem_cons, List.not_mem_nil, or_false, not_or, not_false_eq_true]; (first | done | omega))) ?_))); done)); exact rfl) | ((with_reducible apply ok_oN); (focus ((repeat (first | (with_reducible assumption) | (with_reducible exact rd_self _ _ _ _) | (with_reducible refine rd_ne (by omega) ?_) | (with_reducible refine Frm.get (by with_reducible assumption) (by omega) (by (simp only [List.mem_cons, List.not_mem_nil, or_false, not_or, not_false_eq_true]; (first | done | omega))) ?_))); done)); exact rfl) | ((with_reducible apply ok_j); (focus ((repeat (first | (with_reducible assumption) | (with_reducible exact rd_self _ _ _ _) | (with_reducible refine rd_ne (by omega) ?_) | (with_reducible refine Frm.get (by with_reducible assumption) (by omega) (by (simp only [List.mem_cons, List.not_mem_nil, or_false, not_or, not_false_eq_true]; (first | done | omega))) ?_))); done)); exact rfl)))
        obtain ⟨v59, t59⟩ := sc_RX13_135 hp P.1
        refine ok_cx (x13_take hp hb P t59 z_K59 hps) fun r1 h1 k1 s1 hQ => ?_
        rw [hd, z_tk] at hQ
        by_cases hd59 : d = 59
        · subst hd59
          rw [if_pos (by decide)] at hQ
          obtain ⟨rfl, rfl, rfl, P1, F1, hp1, hd1⟩ := hQ
          have hne := tl.nep eo
          have hP0 : ∀ b ∈ [n0], ∃ e, rd Ev h b = some e ∧ Oth e := fun b hb => by
            rw [List.mem_singleton.mp hb]
            exact ⟨_, eo, Or.inl ⟨11, _, rfl, by decide, by decide⟩⟩
          have hP1 : ∀ b ∈ [n0], ∃ e, rd Ev h1 b = some e ∧ Oth e := fun b hb => by
            rw [List.mem_singleton.mp hb]
            exact ⟨_, P1.2.2.2.2, Or.inl ⟨11, _, rfl, by decide, by decide⟩⟩
          have tl1 := tl.fr P.1 F1 (by simp; omega) (by simp; omega)
          have hc1 := hc.oth P.1 F1 hP0
          have eo1 := P1.2.2.2.2
          dsimp only at P1 hp1 hd1 ⊢
          (repeat (first | ((with_reducible apply ok_i); (focus ((repeat (first | (with_reducible assumption) | (with_reducible exact rd_self _ _ _ _) | (with_reducible refine rd_ne (by omega) ?_) | (with_reducible refine Frm.get (by with_reducible assumption) (by omega) (by (simp only [List.mem_cons, List.not_mem_nil, or_false, not_or, not_false_eq_true]; (first | done | omega))) ?_))); done)); exact rfl) | ((with_reducible apply ok_p); (focus ((repeat (first | (with_reducible assumption) | (with_reducible exact rd_self _ _ _ _) | (with_reducible refine rd_ne (by omega) ?_) | (with_reducible refine Frm.get (by with_reducible assumption) (by omega) (by (simp only [List.mem_cons, List.not_mem_nil, or_false, not_or, not_false_eq_true]; (first | done | omega))) ?_))); done)); exact rfl) | ((with_reducible apply ok_k); (focus ((repeat (first | (with_reducible assumption) | (with_reducible exact rd_self _ _ _ _) | (with_reducible refine rd_ne (by omega) ?_) | (with_reducible refine Frm.get (by with_reducible assumption) (by omega) (by (simp only [List.mem_cons, List.not_mem_nil, or_false, not_or, not_false_eq_true]; (first | done | omega))) ?_))); done))) | ((with_reducible apply ok_len); (focus ((repeat (first | (with_reducible assumption) | (with_reducible exact rd_self _ _ _ _) | (with_reducible refine rd_ne (by omega) ?_) | (with_reducible refine Frm.get (by with_reducible assumption) (by omega) (by (simp only [List.mem_cons, List.not_mem_nil, or_false, not_or, not_false_eq_true]; (first | done | omega))) ?_))); done))) | (with_reducible apply ok_lt) | (with_reducible apply ok_ad) | ((with_reducible apply ok_put); (first | (with_reducible assumption) | exact D.ow (by omega) | exact hO _ (by omega)); (focus ((repeat (first | (with_reducible assumption) | (with_reducible exact rd_self _ _ _ _) | (with_reducible refine rd_ne (by omega) ?_) | (with_reducible refine Frm.get (by with_reducible assumption) (by omega) (by (simp only [List.mem_cons, List.not_mem_nil, or_false, not_or, not_false_eq_true]; (first | done | omega))) ?_))); done)); exact Nat.le_of_ble_eq_true rfl) | ((with_reducible apply ok_cls); (focus ((repeat (first | (with_reducible assumption) | (with_reducible exact rd_self _ _ _ _) | (with_reducible refine rd_ne (by omega) ?_) | (with_reducible refine Frm.get (by with_reducible assumption) (by omega) (by (simp only [List.mem_cons, List.not_mem_nil, or_false, not_or, not_false_eq_true]; (first | done | omega))) ?_))); done))) | ((with_reducible apply ok_ca); (focus ((repeat (first | (with_reducible assumption) | (with_reducible exact rd_self _ _ _ _) | (with_reducible refine rd_ne (by omega) ?_) | (with_reducible refine Frm.get (by with_reducible assumption) (by omega) (by (simp only [List.mem_cons, List.not_mem_nil, or_false, not_or, not_false_eq_true]; (first | done | omega))) ?_))); done)); exact (by decide)) | ((with_reducible apply ok_isa1); (focus ((repeat (first | (with_reducible assumption) | (with_reducible exact rd_self _ _ _ _) | (with_reducible refine rd_ne (by omega) ?_) | (with_reducible refine Frm.get (by with_reducible assumption) (by omega) (by (simp only [List.mem_cons, List.not_mem_nil, or_false, not_or, not_false_eq_true]; (first | done | omega))) ?_))); done)); exact (by decide)) | ((with_reducible apply ok_isa0); (focus ((repeat (first | (with_reducible assumption) | (with_reducible exact rd_self _ _ _ _) | (with_reducible refine rd_ne (by omega) ?_) | (with_reducible refine Frm.get (by with_reducible assumption) (by omega) (by (simp only [List.mem_cons, List.not_mem_nil, or_false, not_or, not_false_eq_true]; (first | done | omega))) ?_))); done)); exact (by decide); exact (by decide)) | ((with_reducible apply ok_oS); (focus ((repeat (first | (with_reducible assumption) | (with_reducible exact rd_self _ _ _ _) | (with_reducible refine rd_ne (by omega) ?_) | (with_reducible refine Frm.get (by with_reducible assumption) (by omega) (by (simp only [List.mem_cons, List.not_mem_nil, or_false, not_or, not_false_eq_true]; (first | done | omega))) ?_))); done)); exact rfl) | ((with_reducible apply ok_oN); (focus ((repeat (first | (with_reducible assumption) | (with_reducible exact rd_self _ _ _ _) | (with_reducible refine rd_ne (by omega) ?_) | (with_reducible refine Frm.get (by with_reducible assumption) (by omega) (by (simp only [List.mem_cons, List.not_mem_nil, or_false, not_or, not_false_eq_true]; (first | done | omega))) ?_))); done)); exact rfl) | ((with_reducible apply ok_j); (focus ((repeat (first | (with_reducible assumption) | (with_reducible exact rd_self _ _ _ _) | (with_reducible refine rd_ne (by omega) ?_) | (with_reducible refine Frm.get (by with_reducible assumption) (by omega) (by (simp only [List.mem_cons, List.not_mem_nil, or_false, not_or, not_false_eq_true]; (first | done | omega))) ?_))); done)); exact rfl)))
          refine ok_cx (x13_command (n := n + 0) hp hb P1 hp1) fun r3 h3 k3 s3 hQ => ?_
          rw [hd1] at hQ
          have hzm : z_more (f + 1) (59 :: r2) pos = z_txt (f + 1) r2 (pos + 1) := by rw [z_more, if_pos rfl]
          rw [hzm, z_txt_s]
          cases hz : z_cmd r2 (pos + 1) with
          | inr q =>
            rw [hz] at hQ
            obtain ⟨g1, g2, ⟨a, rfl, e⟩, D3, F3⟩ := hQ
            dsimp only
            refine ok_ad (ok_pos rfl ?_)
            refine ok_end ⟨by simp only [List.length_cons]; omega, by simp only [List.length_cons]; omega, ⟨a, rfl, e⟩, cast (congrArg (fun M => Dm Ev M h3) (by omega)) D3, F3⟩
          | inl y =>
            rw [hz] at hQ
            obtain ⟨c, r3', p3⟩ := y
            obtain ⟨g1, g2, a, rfl, ho, P3, F3, hp3, hd3⟩ := hQ
            obtain ⟨zc1, zc2, zc3, -⟩ := z_cmd_d (buf := buf) (by omega) hz
            have zca := z_cmd_a hz
            dsimp only at g1 g2 ho P3 hp3 hd3 zca ⊢
            have tl3 := tl1.fr P1.1 F3 (by simp; omega) (by simp; omega)
            have hc3 := hc1.oth P1.1 F3 hP1
            obtain ⟨el, -⟩ := id tl3
            (repeat (first | ((with_reducible apply ok_i); (focus ((repeat (first | (with_reducible assumption) | (with_reducible exact rd_self _ _ _ _) | (with_reducible refine rd_ne (by omega) ?_) | (with_reducible refine Frm.get (by with_reducible assumption) (by omega) (by (simp only [List.mem_cons, List.not_mem_nil, or_false, not_or, not_false_eq_true]; (first | done | omega))) ?_))); done)); exact rfl) | ((with_reducible apply ok_p); (focus ((repeat (first | (with_reducible assumption) | (with_reducible exact rd_self _ _ _ _) | (with_reducible refine rd_ne (by omega) ?_) | (with_reducible refine Frm.get (by with_reducible assumption) (by omega) (by (simp only [List.mem_cons, List.not_mem_nil, or_false, not_or, not_false_eq_true]; (first | done | omega))) ?_))); done)); exact rfl) | ((with_reducible apply ok_k); (focus ((repeat (first | (with_reducible assumption) | (with_reducible exact rd_self _ _ _ _) | (with_reducible refine rd_ne (by omega) ?_) | (with_reducible refine Frm.get (by with_reducible assumption) (by omega) (by (simp only [List.mem_cons, List.not_mem_nil, or_false, not_or, not_false_eq_true]; (first | done | omega))) ?_))); done))) | ((with_reducible apply ok_len); (focus ((repeat (first | (with_reducible assumption) | (with_reducible exact rd_self _ _ _ _) | (with_reducible refine rd_ne (by omega) ?_) | (with_reducible refine Frm.get (by with_reducible assumption) (by omega) (by (simp only [List.mem_cons, List.not_mem_nil, or_false, not_or, not_false_eq_true]; (first | done | omega))) ?_))); done))) | (with_reducible apply ok_lt) | (with_reducible apply ok_ad) | ((with_reducible apply ok_put); (first | (with_reducible assumption) | exact D.ow (by omega) | exact hO _ (by omega)); (focus ((repeat (first | (with_reducible assumption) | (with_reducible exact rd_self _ _ _ _) | (with_reducible refine rd_ne (by omega) ?_) | (with_reducible refine Frm.get (by with_reducible assumption) (by omega) (by (simp only [List.mem_cons, List.not_mem_nil, or_false, not_or, not_false_eq_true]; (first | done | omega))) ?_))); done)); exact Nat.le_of_ble_eq_true rfl) | ((with_reducible apply ok_cls); (focus ((repeat (first | (with_reducible assumption) | (with_reducible exact rd_self _ _ _ _) | (with_reducible refine rd_ne (by omega) ?_) | (with_reducible refine Frm.get (by with_reducible assumption) (by omega) (by (simp only [List.mem_cons, List.not_mem_nil, or_false, not_or, not_false_eq_true]; (first | done | omega))) ?_))); done))) | ((with_reducible apply ok_ca); (focus ((repeat (first | (with_reducible assumption) | (with_reducible exact rd_self _ _ _ _) | (with_reducible refine rd_ne (by omega) ?_) | (with_reducible refine Frm.get (by with_reducible assumption) (by omega) (by (simp only [List.mem_cons, List.not_mem_nil, or_false, not_or, not_false_eq_true]; (first | done | omega))) ?_))); done)); exact (by decide)) | ((with_reducible apply ok_isa1); (focus ((repeat (first | (with_reducible assumption) | (with_reducible exact rd_self _ _ _ _) | (with_reducible refine rd_ne (by omega) ?_) | (with_reducible refine Frm.get (by with_reducible assumption) (by omega) (by (simp only [List.mem_cons, List.not_mem_nil, or_false, not_or, not_false_eq_true]; (first | done | omega))) ?_))); done)); exact (by decide)) | ((with_reducible apply ok_isa0); (focus ((repeat (first | (with_reducible assumption) | (with_reducible exact rd_self _ _ _ _) | (with_reducible refine rd_ne (by omega) ?_) | (with_reducible refine Frm.get (by with_reducible assumption) (by omega) (by (simp only [List.mem_cons, List.not_mem_nil, or_false, not_or, not_false_eq_true]; (first | done | omega))) ?_))); done)); exact (by decide); exact (by decide)) | ((with_reducible apply ok_oS); (focus ((repeat (first | (with_reducible assumption) | (with_reducible exact rd_self _ _ _ _) | (with_reducible refine rd_ne (by omega) ?_) | (with_reducible refine Frm.get (by with_reducible assumption) (by omega) (by (simp only [List.mem_cons, List.not_mem_nil, or_false, not_or, not_false_eq_true]; (first | done | omega))) ?_))); done)); exact rfl) | ((with_reducible apply ok_oN); (focus ((repeat (first | (with_reducible assumption) | (with_reducible exact rd_self _ _ _ _) | (with_reducible refine rd_ne (by omega) ?_) | (with_reducible refine Frm.get (by with_reducible assumption) (by omega) (by (simp only [List.mem_cons, List.not_mem_nil, or_false, not_or, not_false_eq_true]; (first | done | omega))) ?_))); done)); exact rfl) | ((with_reducible apply ok_j); (focus ((repeat (first | (with_reducible assumption) | (with_reducible exact rd_self _ _ _ _) | (with_reducible refine rd_ne (by omega) ?_) | (with_reducible refine Frm.get (by with_reducible assumption) (by omega) (by (simp only [List.mem_cons, List.not_mem_nil, or_false, not_or, not_false_eq_true]; (first | done | omega))) ?_))); done)); exact rfl)))
            refine ok_call (n := n + 0 + k3) (x13_add1 (m := n) hp P3.1 (lo := lo) (by have := hc.lw; omega) (by omega) P3 hnl tl3 hrr (by omega) hc3 ho) fun r4 h4 k4 s4 D4 F4 hQ => ?_
            obtain ⟨q1, q2, T4⟩ := hQ
            dsimp only
            refine ok_ad ?_
            obtain ⟨t, ht, hQ⟩ := ih r3' p3 (n + 0 + k3 + k4) h4 (L ++ [a]) (cl ++ [c]) fu hd3 hp3 (by omega) (by omega) (by simp only [List.length_append, List.length_singleton]; omega) T4
            refine ⟨t, ht, ?_⟩
            obtain ⟨r5, h5, k5, s5⟩ := t
            simp only [Pm, TQ, Nat.zero_add, Nat.add_zero, List.length_cons] at hQ ⊢
            obtain ⟨w1, w2, w3⟩ := hQ
            refine ⟨by omega, by omega, ?_⟩
            cases hm3 : z_more f r3' p3 with
            | inr q =>
              rw [hm3] at w3
              obtain ⟨w4, w5, w6⟩ := w3
              exact ⟨w4, cast (congrArg (fun M => Dm Ev M h5) (by omega)) w5, w6⟩
            | inl l2 =>
              rw [hm3] at w3
              obtain ⟨w4, pos', L', w5⟩ := w3
              refine ⟨w4, pos', L', ?_⟩
              have he : cl ++ c :: l2 = cl ++ [c] ++ l2 := by simp
              rw [he]
              exact cast (congrArg (fun M => TI Ev n0 h0 x lo l pos' M h5 L' (cl ++ [c] ++ l2)) (by omega)) w5
        · rw [if_neg (by simpa using hd59)] at hQ
          obtain ⟨rfl, rfl, ⟨a, rfl, e⟩, D3, F3⟩ := hQ
          dsimp only
          refine ok_ad (ok_pos rfl ?_)
          rw [show z_more (f + 1) (d :: r2) pos = .inr pos by rw [z_more, if_neg hd59]]
          refine ok_end ⟨by simp only [List.length_cons]; omega, by simp only [List.length_cons]; omega, ⟨a, rfl, e⟩, cast (congrArg (fun M => Dm Ev M h1) (by omega)) D3, F3⟩
end PRSI
