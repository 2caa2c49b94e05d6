/-! the law's loop, walked over the law's state. Printed by wip/D-73134w/gen/lawgen.py -/
set_option maxRecDepth 100000
theorem zs_callWI {σ α β : Type} {D : zs_D} {Rl : σ → zs_AH → Prop} {bd : σ → Nat × Nat} {Fn : zs_Q σ α} {own : String} {cc : ByteArray} {nL : Nat} {rt : Option FieldType} {nm : String} {d : Nat} {M : σ} {pc : Nat} {lv : List (Nat × Value)} {K : β → Option (α × σ)} {y : MethodName} {cc' : ByteArray} {nL' d' n i ci : Nat} {rt' : Option FieldType} {hh : List (Nat × Nat × Nat × Nat)} {b : Nat} {g : Option (Int32 × σ)} {f : Int32 × σ → Option β} {C : String} {T : u_T} {N : Nat} {ty : Nat → FieldType} {st0 : List Value} (As rest : List Value)
    (hC : zs_ConW D Rl bd zs_eI y cc' nL' rt' hh d' (.ref b :: As) M g) (hm : zs_mVW C y cc' nL' rt' hh n) (hl : Cond.methodLink own i y ∈ lw_all) (hc : zs_cls ci C T N ty) (hb : ∀ h, Rl M h → ∃ k f, h.2.2 b = some (ci, k, f)) (hd : decode cc pc = .ok (.invokevirtual i, 3)) (hst : st0 = As.reverse ++ .ref b :: rest) (hn : As.length = n) (hdd : d' + 1 ≤ d) (hw : (rest.map fun v => v.category).sum ≤ 8)
    (k : ∀ z : Int32 × σ, zs_Sim D Rl bd Fn own cc nL rt nm d z.2 (pc + 3) lv (.int z.1 :: rest) (f z) K) : zs_Sim D Rl bd Fn own cc nL rt nm d M pc lv st0 (g.bind f) K :=
  zs_callW0 As rest hC hm hl hc hb hd hst hn hdd hw (fun r M1 _ => k (r, M1))
noncomputable def g_L_law_L18 (L : Nat) (xs : Nat → Int32) (w : Nat → Nat) (P : Nat → Bool) (c : Nat) (m : Nat) (b : Nat) : (Int32 × ls_S) → Option ((Int32 × ls_S) ⊕ (Bool × ls_S)) := fun t18 =>
if ((nI L) - 6) < t18.1 then (some (Sum.inr (true, t18.2)))
else ((zs_ald L xs t18.1).bind fun x1 =>
zs_let (fun (p2 : ls_S) => some (Sum.inl ((t18.1 + 6), p2))) fun J1247 =>
if (x1 &&& 63) = 0 then ((zs_ald L xs (t18.1 + 1)).bind fun x3 =>
(zs_ald L xs (t18.1 + 2)).bind fun x4 =>
(zs_ald L xs (t18.1 + 3)).bind fun x5 =>
(zs_ald L xs (t18.1 + 4)).bind fun x6 =>
(zs_ald L xs (t18.1 + 5)).bind fun x7 =>
((gh_feed t18.2.1 t18.2.2.1.1 x3 x4 x5 x6 x7).map fun z => (z.1, ls_uC t18.2 z.2)).bind fun p8 =>
(zs_ald L xs (t18.1 + 1)).bind fun x9 =>
(zs_ald L xs (t18.1 + 2)).bind fun x10 =>
(zs_ald L xs (t18.1 + 3)).bind fun x11 =>
(zs_ald L xs (t18.1 + 4)).bind fun x12 =>
(zs_ald L xs (t18.1 + 5)).bind fun x13 =>
((gm_feed p8.2.2.2 x9 x10 x11 x12 x13).map fun z => (z.1, ls_uM p8.2 z.2)).bind fun p14 =>
if p8.1 = p14.1 then (J1247 p14.2)
else (some (Sum.inr (false, p14.2))))
else if (x1 &&& 63) = 1 then ((zs_ald L xs (t18.1 + 1)).bind fun x15 =>
((gh_back t18.2.1 t18.2.2.1.1 x15).map fun z => (z.1, ls_uC t18.2 z.2)).bind fun p16 =>
(zs_ald L xs (t18.1 + 1)).bind fun x17 =>
((gm_back p16.2.2.2 x17).map fun z => (z.1, ls_uM p16.2 z.2)).bind fun p18 =>
if p16.1 = p18.1 then (J1247 p18.2)
else (some (Sum.inr (false, p18.2))))
else if (x1 &&& 63) = 2 then ((ls_read w P c m b L xs t18.2).bind fun p19 =>
((gm_read p19.2.2.2).map fun z => (z.1, ls_uM p19.2 z.2)).bind fun p20 =>
if p19.1 = p20.1 then (J1247 p20.2)
else (some (Sum.inr (false, p20.2))))
else if (x1 &&& 63) = 3 then ((gh_place t18.2.1 t18.2.2.1.1).bind fun x21 =>
(gm_place t18.2.2.2).bind fun x22 =>
if x21 = x22 then (J1247 t18.2)
else (some (Sum.inr (false, t18.2))))
else if (x1 &&& 63) = 4 then ((zs_ald L xs (t18.1 + 1)).bind fun x23 =>
(zs_ald L xs (t18.1 + 2)).bind fun x24 =>
((gh_house t18.2.1 t18.2.2.1.1 x23 x24).map fun z => (z.1, ls_uC t18.2 z.2)).bind fun p25 =>
(zs_ald L xs (t18.1 + 1)).bind fun x26 =>
(zs_ald L xs (t18.1 + 2)).bind fun x27 =>
((gm_house p25.2.2.2 x26 x27).map fun z => (z.1, ls_uM p25.2 z.2)).bind fun p28 =>
if p25.1 = p28.1 then (J1247 p28.2)
else (some (Sum.inr (false, p28.2))))
else if (x1 &&& 63) = 5 then ((zs_ald L xs (t18.1 + 1)).bind fun x29 =>
(zs_ald L xs (t18.1 + 2)).bind fun x30 =>
(gh_likes t18.2.1 t18.2.2.1.1 x29 x30).bind fun x31 =>
(zs_ald L xs (t18.1 + 1)).bind fun x32 =>
(zs_ald L xs (t18.1 + 2)).bind fun x33 =>
(gm_likes t18.2.2.2 x32 x33).bind fun x34 =>
if x31 = x34 then (J1247 t18.2)
else (some (Sum.inr (false, t18.2))))
else if (x1 &&& 63) = 6 then ((zs_ald L xs (t18.1 + 1)).bind fun x35 =>
(zs_ald L xs (t18.1 + 2)).bind fun x36 =>
((gh_joins t18.2.1 t18.2.2.1.1 x35 x36).map fun z => (z.1, ls_uC t18.2 z.2)).bind fun p37 =>
(zs_ald L xs (t18.1 + 1)).bind fun x38 =>
(zs_ald L xs (t18.1 + 2)).bind fun x39 =>
((gm_joins p37.2.2.2 x38 x39).map fun z => (z.1, ls_uM p37.2 z.2)).bind fun p40 =>
if p37.1 = p40.1 then (J1247 p40.2)
else (some (Sum.inr (false, p40.2))))
else if (x1 &&& 63) = 7 then ((zs_ald L xs (t18.1 + 1)).bind fun x41 =>
(gh_at t18.2.1 t18.2.2.1.1 x41).bind fun x42 =>
(zs_ald L xs (t18.1 + 1)).bind fun x43 =>
(gm_at t18.2.2.2 x43).bind fun x44 =>
if x42 = x44 then (J1247 t18.2)
else (some (Sum.inr (false, t18.2))))
else if (x1 &&& 63) = 8 then ((zs_ald L xs (t18.1 + 1)).bind fun x45 =>
((gh_splice t18.2.1 t18.2.2.1.1 x45).map fun z => (z.1, ls_uC t18.2 z.2)).bind fun p46 =>
(zs_ald L xs (t18.1 + 1)).bind fun x47 =>
((gm_splice p46.2.2.2 x47).map fun z => (z.1, ls_uM p46.2 z.2)).bind fun p48 =>
if p46.1 = p48.1 then (J1247 p48.2)
else (some (Sum.inr (false, p48.2))))
else if (x1 &&& 63) = 9 then (((gh_unsplice t18.2.1 t18.2.2.1.1).map fun z => (z.1, ls_uC t18.2 z.2)).bind fun p49 =>
((gm_unsplice p49.2.2.2).map fun z => (z.1, ls_uM p49.2 z.2)).bind fun p50 =>
if p49.1 = p50.1 then (J1247 p50.2)
else (some (Sum.inr (false, p50.2))))
else if (x1 &&& 63) = 10 then ((zs_ald L xs (t18.1 + 1)).bind fun x51 =>
((gh_haul t18.2.1 t18.2.2.1.1 x51).map fun z => (z.1, ls_uC t18.2 z.2)).bind fun p52 =>
(zs_ald L xs (t18.1 + 1)).bind fun x53 =>
((gm_haul p52.2.2.2 x53).map fun z => (z.1, ls_uM p52.2 z.2)).bind fun p54 =>
if p52.1 = p54.1 then (J1247 p54.2)
else (some (Sum.inr (false, p54.2))))
else if (x1 &&& 63) = 11 then ((zs_ald L xs (t18.1 + 1)).bind fun x55 =>
((gh_years t18.2.1 t18.2.2.1.1 x55).map fun z => (z.1, ls_uC t18.2 z.2)).bind fun p56 =>
(zs_ald L xs (t18.1 + 1)).bind fun x57 =>
((gm_years p56.2.2.2 x57).map fun z => (z.1, ls_uM p56.2 z.2)).bind fun p58 =>
if p56.1 = p58.1 then (J1247 p58.2)
else (some (Sum.inr (false, p58.2))))
else if (x1 &&& 63) = 12 then (((gh_undo t18.2.1 t18.2.2.1.1).map fun z => (z.1, ls_uC t18.2 z.2)).bind fun p59 =>
((gm_undo p59.2.2.2).map fun z => (z.1, ls_uM p59.2 z.2)).bind fun p60 =>
if (zs_b p59.1) = (zs_b p60.1) then (J1247 p60.2)
else (some (Sum.inr (false, p60.2))))
else if (x1 &&& 63) = 13 then (((gh_most t18.2.1 t18.2.2.1.1).map fun z => (z.1, ls_uC t18.2 z.2)).bind fun p61 =>
((gm_most p61.2.2.2).map fun z => (z.1, ls_uM p61.2 z.2)).bind fun p62 =>
if p61.1 = p62.1 then (J1247 p62.2)
else (some (Sum.inr (false, p62.2))))
else if (x1 &&& 63) = 14 then ((zs_ald L xs (t18.1 + 1)).bind fun x63 =>
((gh_weakest t18.2.1 t18.2.2.1.1 x63).map fun z => (z.1, ls_uC t18.2 z.2)).bind fun p64 =>
(zs_ald L xs (t18.1 + 1)).bind fun x65 =>
((gm_weakest p64.2.2.2 x65).map fun z => (z.1, ls_uM p64.2 z.2)).bind fun p66 =>
if p64.1 = p66.1 then (J1247 p66.2)
else (some (Sum.inr (false, p66.2))))
else if (x1 &&& 63) = 15 then ((zs_ald L xs (t18.1 + 1)).bind fun x67 =>
(gh_below t18.2.1 t18.2.2.1.1 x67).bind fun x68 =>
(zs_ald L xs (t18.1 + 1)).bind fun x69 =>
((gm_below t18.2.2.2 x69).map fun z => (z.1, ls_uM t18.2 z.2)).bind fun p70 =>
if x68 = p70.1 then (J1247 p70.2)
else (some (Sum.inr (false, p70.2))))
else if (x1 &&& 63) = 16 then ((zs_ald L xs (t18.1 + 1)).bind fun x71 =>
((gh_orders t18.2.1 t18.2.2.1.1 x71).map fun z => (z.1, ls_uC t18.2 z.2)).bind fun p72 =>
(zs_ald L xs (t18.1 + 1)).bind fun x73 =>
((gm_orders p72.2.2.2 x73).map fun z => (z.1, ls_uM p72.2 z.2)).bind fun p74 =>
if p72.1 = p74.1 then (J1247 p74.2)
else (some (Sum.inr (false, p74.2))))
else if (x1 &&& 63) = 17 then (((gh_peak t18.2.1 t18.2.2.1.1).map fun z => (z.1, ls_uC t18.2 z.2)).bind fun p75 =>
((gm_peak p75.2.2.2).map fun z => (z.1, ls_uM p75.2 z.2)).bind fun p76 =>
if p75.1 = p76.1 then (J1247 p76.2)
else (some (Sum.inr (false, p76.2))))
else if (x1 &&& 63) = 18 then ((zs_ald L xs (t18.1 + 1)).bind fun x77 =>
(zs_ald L xs (t18.1 + 2)).bind fun x78 =>
((gh_fewest t18.2.1 t18.2.2.1.1 x77 x78).map fun z => (z.1, ls_uC t18.2 z.2)).bind fun p79 =>
(zs_ald L xs (t18.1 + 1)).bind fun x80 =>
(zs_ald L xs (t18.1 + 2)).bind fun x81 =>
((gm_fewest p79.2.2.2 x80 x81).map fun z => (z.1, ls_uM p79.2 z.2)).bind fun p82 =>
if p79.1 = p82.1 then (J1247 p82.2)
else (some (Sum.inr (false, p82.2))))
else if (x1 &&& 63) = 19 then ((zs_ald L xs (t18.1 + 1)).bind fun x83 =>
((gh_needed t18.2.1 t18.2.2.1.1 x83).map fun z => (z.1, ls_uC t18.2 z.2)).bind fun p84 =>
(zs_ald L xs (t18.1 + 1)).bind fun x85 =>
((gm_needed p84.2.2.2 x85).map fun z => (z.1, ls_uM p84.2 z.2)).bind fun p86 =>
if p84.1 = p86.1 then (J1247 p86.2)
else (some (Sum.inr (false, p86.2))))
else if (x1 &&& 63) = 20 then ((zs_ald L xs (t18.1 + 1)).bind fun x87 =>
((gh_soon t18.2.1 t18.2.2.1.1 x87).map fun z => (z.1, ls_uC t18.2 z.2)).bind fun p88 =>
(zs_ald L xs (t18.1 + 1)).bind fun x89 =>
((gm_soon p88.2.2.2 x89).map fun z => (z.1, ls_uM p88.2 z.2)).bind fun p90 =>
if p88.1 = p90.1 then (J1247 p90.2)
else (some (Sum.inr (false, p90.2))))
else if (x1 &&& 63) = 21 then ((zs_ald L xs (t18.1 + 1)).bind fun x91 =>
(zs_ald L xs (t18.1 + 2)).bind fun x92 =>
((gh_peace t18.2.1 t18.2.2.1.1 x91 x92).map fun z => (z.1, ls_uC t18.2 z.2)).bind fun p93 =>
(zs_ald L xs (t18.1 + 1)).bind fun x94 =>
(zs_ald L xs (t18.1 + 2)).bind fun x95 =>
((gm_peace p93.2.2.2 x94 x95).map fun z => (z.1, ls_uM p93.2 z.2)).bind fun p96 =>
if p93.1 = p96.1 then (J1247 p96.2)
else (some (Sum.inr (false, p96.2))))
else if (x1 &&& 63) = 22 then ((zs_ald L xs (t18.1 + 1)).bind fun x97 =>
((gh_rests t18.2.1 t18.2.2.1.1 x97).map fun z => (z.1, ls_uC t18.2 z.2)).bind fun p98 =>
(zs_ald L xs (t18.1 + 1)).bind fun x99 =>
((gm_rests p98.2.2.2 x99).map fun z => (z.1, ls_uM p98.2 z.2)).bind fun p100 =>
if p98.1 = p100.1 then (J1247 p100.2)
else (some (Sum.inr (false, p100.2))))
else if (x1 &&& 63) = 23 then ((gh_pivots t18.2.1 t18.2.2.1.1).bind fun x101 =>
((gm_pivots t18.2.2.2).map fun z => (z.1, ls_uM t18.2 z.2)).bind fun p102 =>
if x101 = p102.1 then (J1247 p102.2)
else (some (Sum.inr (false, p102.2))))
else if (x1 &&& 63) = 24 then ((zs_ald L xs (t18.1 + 1)).bind fun x103 =>
(gh_share t18.2.1 t18.2.2.1.1 x103).bind fun x104 =>
(zs_ald L xs (t18.1 + 1)).bind fun x105 =>
((gm_share t18.2.2.2 x105).map fun z => (z.1, ls_uM t18.2 z.2)).bind fun p106 =>
if x104 = p106.1 then (J1247 p106.2)
else (some (Sum.inr (false, p106.2))))
else if (x1 &&& 63) = 25 then ((zs_ald L xs (t18.1 + 1)).bind fun x107 =>
((gh_lasts t18.2.1 t18.2.2.1.1 x107).map fun z => (z.1, ls_uC t18.2 z.2)).bind fun p108 =>
(zs_ald L xs (t18.1 + 1)).bind fun x109 =>
((gm_lasts p108.2.2.2 x109).map fun z => (z.1, ls_uM p108.2 z.2)).bind fun p110 =>
if p108.1 = p110.1 then (J1247 p110.2)
else (some (Sum.inr (false, p110.2))))
else if (x1 &&& 63) = 26 then ((zs_ald L xs (t18.1 + 1)).bind fun x111 =>
(zs_ald L xs (t18.1 + 2)).bind fun x112 =>
(zs_ald L xs (t18.1 + 3)).bind fun x113 =>
((gh_harvest t18.2.1 t18.2.2.1.1 x111 x112 x113).map fun z => (z.1, ls_uC t18.2 z.2)).bind fun p114 =>
(zs_ald L xs (t18.1 + 1)).bind fun x115 =>
(zs_ald L xs (t18.1 + 2)).bind fun x116 =>
(zs_ald L xs (t18.1 + 3)).bind fun x117 =>
((gm_harvest p114.2.2.2 x115 x116 x117).map fun z => (z.1, ls_uM p114.2 z.2)).bind fun p118 =>
if p114.1 = p118.1 then (J1247 p118.2)
else (some (Sum.inr (false, p118.2))))
else if (x1 &&& 63) = 27 then (((gh_swap t18.2.1 t18.2.2.1.1).map fun z => (z.1, ls_uC t18.2 z.2)).bind fun p119 =>
((gm_swap p119.2.2.2).map fun z => (z.1, ls_uM p119.2 z.2)).bind fun p120 =>
if p119.1 = p120.1 then (J1247 p120.2)
else (some (Sum.inr (false, p120.2))))
else if (x1 &&& 63) = 28 then ((zs_ald L xs (t18.1 + 1)).bind fun x121 =>
((gh_quarrel t18.2.1 t18.2.2.1.1 x121).map fun z => (z.1, ls_uC t18.2 z.2)).bind fun p122 =>
(zs_ald L xs (t18.1 + 1)).bind fun x123 =>
((gm_quarrel p122.2.2.2 x123).map fun z => (z.1, ls_uM p122.2 z.2)).bind fun p124 =>
if p122.1 = p124.1 then (J1247 p124.2)
else (some (Sum.inr (false, p124.2))))
else if (x1 &&& 63) = 29 then ((zs_ald L xs (t18.1 + 1)).bind fun x125 =>
(gh_greyest t18.2.1 t18.2.2.1.1 x125).bind fun x126 =>
(zs_ald L xs (t18.1 + 1)).bind fun x127 =>
(gm_greyest t18.2.2.2 x127).bind fun x128 =>
if x126 = x128 then (J1247 t18.2)
else (some (Sum.inr (false, t18.2))))
else if (x1 &&& 63) = 30 then ((zs_ald L xs (t18.1 + 1)).bind fun x129 =>
(zs_ald L xs (t18.1 + 2)).bind fun x130 =>
(zs_ald L xs (t18.1 + 3)).bind fun x131 =>
((gh_then t18.2.1 t18.2.2.1.1 x129 x130 x131).map fun z => (z.1, ls_uC t18.2 z.2)).bind fun p132 =>
(zs_ald L xs (t18.1 + 1)).bind fun x133 =>
(zs_ald L xs (t18.1 + 2)).bind fun x134 =>
(zs_ald L xs (t18.1 + 3)).bind fun x135 =>
((gm_then p132.2.2.2 x133 x134 x135).map fun z => (z.1, ls_uM p132.2 z.2)).bind fun p136 =>
if p132.1 = p136.1 then (J1247 p136.2)
else (some (Sum.inr (false, p136.2))))
else if (x1 &&& 63) = 31 then ((zs_ald L xs (t18.1 + 1)).bind fun x137 =>
(zs_ald L xs (t18.1 + 2)).bind fun x138 =>
(zs_ald L xs (t18.1 + 3)).bind fun x139 =>
(zs_ald L xs (t18.1 + 4)).bind fun x140 =>
((gh_year t18.2.1 t18.2.2.1.1 x137 x138 x139 x140).map fun z => (z.1, ls_uC t18.2 z.2)).bind fun p141 =>
(zs_ald L xs (t18.1 + 1)).bind fun x142 =>
(zs_ald L xs (t18.1 + 2)).bind fun x143 =>
(zs_ald L xs (t18.1 + 3)).bind fun x144 =>
(zs_ald L xs (t18.1 + 4)).bind fun x145 =>
((gm_year p141.2.2.2 x142 x143 x144 x145).map fun z => (z.1, ls_uM p141.2 z.2)).bind fun p146 =>
if p141.1 = p146.1 then (J1247 p146.2)
else (some (Sum.inr (false, p146.2))))
else if (x1 &&& 63) = 32 then ((zs_ald L xs (t18.1 + 1)).bind fun x147 =>
(zs_ald L xs (t18.1 + 2)).bind fun x148 =>
(zs_ald L xs (t18.1 + 3)).bind fun x149 =>
(if x149 = 0 then (some 0)
else (some 1)).bind fun (p150 : Int32) =>
((gh_tell t18.2.1 t18.2.2.1.1 x147 x148 p150).map fun z => (z.1, ls_uC t18.2 z.2)).bind fun p151 =>
(zs_ald L xs (t18.1 + 1)).bind fun x152 =>
(zs_ald L xs (t18.1 + 2)).bind fun x153 =>
(zs_ald L xs (t18.1 + 3)).bind fun x154 =>
(if x154 = 0 then (some 0)
else (some 1)).bind fun (p155 : Int32) =>
((gm_tell p151.2.2.2 x152 x153 p155).map fun z => (z.1, ls_uM p151.2 z.2)).bind fun p156 =>
if p151.1 = p156.1 then (J1247 p156.2)
else (some (Sum.inr (false, p156.2))))
else if (x1 &&& 63) = 33 then (((gh_forget t18.2.1 t18.2.2.1.1).map fun z => (z.1, ls_uC t18.2 z.2)).bind fun p157 =>
((gm_forget p157.2.2.2).map fun z => (z.1, ls_uM p157.2 z.2)).bind fun p158 =>
if p157.1 = p158.1 then (J1247 p158.2)
else (some (Sum.inr (false, p158.2))))
else if (x1 &&& 63) = 34 then ((zs_ald L xs (t18.1 + 1)).bind fun x159 =>
(zs_ald L xs (t18.1 + 2)).bind fun x160 =>
(zs_ald L xs (t18.1 + 3)).bind fun x161 =>
((gh_rows t18.2.1 t18.2.2.1.1 x159 x160 x161).map fun z => (z.1, ls_uC t18.2 z.2)).bind fun p162 =>
(zs_ald L xs (t18.1 + 1)).bind fun x163 =>
(zs_ald L xs (t18.1 + 2)).bind fun x164 =>
(zs_ald L xs (t18.1 + 3)).bind fun x165 =>
((gm_rows p162.2.2.2 x163 x164 x165).map fun z => (z.1, ls_uM p162.2 z.2)).bind fun p166 =>
if p162.1 = p166.1 then (J1247 p166.2)
else (some (Sum.inr (false, p166.2))))
else if (x1 &&& 63) = 35 then ((zs_ald L xs (t18.1 + 1)).bind fun x167 =>
(zs_ald L xs (t18.1 + 2)).bind fun x168 =>
(zs_ald L xs (t18.1 + 3)).bind fun x169 =>
((gh_feel t18.2.1 t18.2.2.1.1 x167 x168 x169).map fun z => (z.1, ls_uC t18.2 z.2)).bind fun p170 =>
(zs_ald L xs (t18.1 + 1)).bind fun x171 =>
(zs_ald L xs (t18.1 + 2)).bind fun x172 =>
(zs_ald L xs (t18.1 + 3)).bind fun x173 =>
((gm_feel p170.2.2.2 x171 x172 x173).map fun z => (z.1, ls_uM p170.2 z.2)).bind fun p174 =>
if p170.1 = p174.1 then (J1247 p174.2)
else (some (Sum.inr (false, p174.2))))
else if (x1 &&& 63) = 36 then ((zs_ald L xs (t18.1 + 1)).bind fun x175 =>
((gh_hold t18.2.1 t18.2.2.1.1 x175).map fun z => (z.1, ls_uC t18.2 z.2)).bind fun p176 =>
(zs_ald L xs (t18.1 + 1)).bind fun x177 =>
((gm_hold p176.2.2.2 x177).map fun z => (z.1, ls_uM p176.2 z.2)).bind fun p178 =>
if (zs_b p176.1) = (zs_b p178.1) then (J1247 p178.2)
else (some (Sum.inr (false, p178.2))))
else if (x1 &&& 63) = 37 then ((zs_ald L xs (t18.1 + 1)).bind fun x179 =>
((gh_restore t18.2.1 t18.2.2.1.1 x179).map fun z => (z.1, ls_uC t18.2 z.2)).bind fun p180 =>
(zs_ald L xs (t18.1 + 1)).bind fun x181 =>
((gm_restore p180.2.2.2 x181).map fun z => (z.1, ls_uM p180.2 z.2)).bind fun p182 =>
if (zs_b p180.1) = (zs_b p182.1) then (J1247 p182.2)
else (some (Sum.inr (false, p182.2))))
else if (x1 &&& 63) = 38 then ((zs_ald L xs (t18.1 + 1)).bind fun x183 =>
(gh_count t18.2.1 t18.2.2.1.1 x183).bind fun x184 =>
(zs_ald L xs (t18.1 + 1)).bind fun x185 =>
((gm_count t18.2.2.2 x185).map fun z => (z.1, ls_uM t18.2 z.2)).bind fun p186 =>
if x184 = p186.1 then (J1247 p186.2)
else (some (Sum.inr (false, p186.2))))
else (J1247 t18.2))
noncomputable def gl_lawT (w : Nat → Nat) (P : Nat → Bool) (c : Nat) (m : Nat) (b : Nat) (L : Nat) (xs : Nat → Int32) (M0 : ls_S) : Option (Bool × ls_S) :=
(zs_loop 5000 (g_L_law_L18 L xs w P c m b) (0, M0)).bind fun z => some z
set_option maxHeartbeats 40000000 in
theorem kl_lawT (D : zs_D) (w : Nat → Nat) (P : Nat → Bool) (c : Nat) (m : Nat) (b : Nat) (L : Nat) (xs : Nat → Int32) (hE : D.2.2.2 1 = .ref (w 100)) (hF : D.2.2.2 4 = hp_v (w 101)) (hP : ∀ a, cs_dom c a → P a = true) (hPm : ∀ a, m ≤ a → a < m + 49 → P a = true) (hdis : m + 49 ≤ c ∨ c + 561 ≤ m) (hds : ¬ (m ≤ b ∧ b < m + 49) ∧ ¬ (c ≤ b ∧ b < c + 561)) (M0 : ls_S) : zs_Sim D (ls_R w P c m b L xs) ls_bd (zs_Fn D (ls_R w P c m b L xs) zs_eB) "HairRopeLaw" cL_law 4 (some .boolean) "law" 428 M0 16 [(0, .ref b), (1, .ref (c + 0)), (2, .ref m)] [] (gl_lawT w P c m b L xs M0) some := by
  unfold gl_lawT
  refine zs_iconst (pc := 16) (v := 0) dL_law_16 rfl ?_
  refine zs_istore_n (pc := 17) (lv' := [(0, .ref b), (1, .ref (c + 0)), (2, .ref m), (3, .int 0)]) [1, 2, 3, 0] dL_law_17 rfl (by decide) rfl ?_
  refine zs_whileX (pc := 18) (fun (t18 : Int32 × ls_S) => t18.2) (fun (t18 : Int32 × ls_S) => [(0, .ref b), (1, .ref (c + 0)), (2, .ref m), (3, .int t18.1)]) 5000 (0, M0) (fun X18 hL18 hR18 t18 => ?_)
  unfold g_L_law_L18
  refine zs_iload_n (pc := 18) 3 dL_law_18 rfl rfl ?_
  refine zs_aload_n (pc := 19) 0 dL_law_19 rfl rfl ?_
  refine zs_alen (pc := 20) (t := 0) (n := L) rfl (ls_scr hds) dL_law_20 ?_
  refine zs_bipush (pc := 21) (v := 6) dL_law_21 (by decide) ?_
  refine zs_isub (pc := 23) dL_law_23 ?_
  refine zs_icmp_gt (pc := 24) (tgt := 1253) dL_law_24 (by decide) ?_ ?_
  · refine zs_iconst (pc := 1253) (v := 1) dL_law_1253 rfl ?_
    exact zs_iret (pc := 1254) dL_law_1254 ((hR18 _).trans rfl) rfl rfl
  · refine zs_aload_n (pc := 27) 0 dL_law_27 rfl rfl ?_
    refine zs_iload_n (pc := 28) 3 dL_law_28 rfl rfl ?_
    refine zs_iald (pc := 29) (n := L) (F := xs) (ls_scr hds) dL_law_29 (fun x1 => ?_)
    refine zs_bipush (pc := 30) (v := 63) dL_law_30 (by decide) ?_
    refine zs_iand (pc := 32) dL_law_32 ?_
    refine zs_letJ (pc := 33) (fun (p2 : ls_S) => p2) 1247 (fun (p2 : ls_S) => [(0, .ref b), (1, .ref (c + 0)), (2, .ref m), (3, .int t18.1)]) (fun (p2 : ls_S) => []) (fun p2 => ?_) (fun J1247 h1247 => ?_)
    · refine zs_iinc (pc := 1247) (lv' := [(0, .ref b), (1, .ref (c + 0)), (2, .ref m), (3, .int (t18.1 + 6))]) 3 [1, 2, 3, 0] dL_law_1247 rfl rfl (by decide) rfl ?_
      refine zs_goto (pc := 1250) (tgt := 18) dL_law_1250 (by decide) ?_
      exact hL18 ((t18.1 + 6), p2)
    · refine zs_tsw (pc := 33) [(0, 204), (1, 267), (2, 290), (3, 303), (4, 316), (5, 349), (6, 382), (7, 415), (8, 438), (9, 461), (10, 474), (11, 497), (12, 520), (13, 533), (14, 546), (15, 569), (16, 592), (17, 615), (18, 628), (19, 661), (20, 684), (21, 707), (22, 740), (23, 763), (24, 776), (25, 799), (26, 822), (27, 865), (28, 878), (29, 901), (30, 924), (31, 967), (32, 1020), (33, 1079), (34, 1092), (35, 1135), (36, 1178), (37, 1201), (38, 1224)] 1247 dL_law_33 (by decide +kernel) ?_
      refine zs_case ?_ ?_
      · refine zs_aload_n (pc := 204) 1 dL_law_204 rfl rfl ?_
        refine zs_aload_n (pc := 205) 0 dL_law_205 rfl rfl ?_
        refine zs_iload_n (pc := 206) 3 dL_law_206 rfl rfl ?_
        refine zs_iconst (pc := 207) (v := 1) dL_law_207 rfl ?_
        refine zs_iadd (pc := 208) dL_law_208 ?_
        refine zs_iald (pc := 209) (n := L) (F := xs) (ls_scr hds) dL_law_209 (fun x3 => ?_)
        refine zs_aload_n (pc := 210) 0 dL_law_210 rfl rfl ?_
        refine zs_iload_n (pc := 211) 3 dL_law_211 rfl rfl ?_
        refine zs_iconst (pc := 212) (v := 2) dL_law_212 rfl ?_
        refine zs_iadd (pc := 213) dL_law_213 ?_
        refine zs_iald (pc := 214) (n := L) (F := xs) (ls_scr hds) dL_law_214 (fun x4 => ?_)
        refine zs_aload_n (pc := 215) 0 dL_law_215 rfl rfl ?_
        refine zs_iload_n (pc := 216) 3 dL_law_216 rfl rfl ?_
        refine zs_iconst (pc := 217) (v := 3) dL_law_217 rfl ?_
        refine zs_iadd (pc := 218) dL_law_218 ?_
        refine zs_iald (pc := 219) (n := L) (F := xs) (ls_scr hds) dL_law_219 (fun x5 => ?_)
        refine zs_aload_n (pc := 220) 0 dL_law_220 rfl rfl ?_
        refine zs_iload_n (pc := 221) 3 dL_law_221 rfl rfl ?_
        refine zs_iconst (pc := 222) (v := 4) dL_law_222 rfl ?_
        refine zs_iadd (pc := 223) dL_law_223 ?_
        refine zs_iald (pc := 224) (n := L) (F := xs) (ls_scr hds) dL_law_224 (fun x6 => ?_)
        refine zs_aload_n (pc := 225) 0 dL_law_225 rfl rfl ?_
        refine zs_iload_n (pc := 226) 3 dL_law_226 rfl rfl ?_
        refine zs_iconst (pc := 227) (v := 5) dL_law_227 rfl ?_
        refine zs_iadd (pc := 228) dL_law_228 ?_
        refine zs_iald (pc := 229) (n := L) (F := xs) (ls_scr hds) dL_law_229 (fun x7 => ?_)
        refine zs_callVwI (pc := 230) [.int x3, .int x4, .int x5, .int x6, .int x7] [] (ls_liftC hP hPm (kh_feed D (w, t18.2.1, t18.2.2.1.2.2.1) P (ls_h0 m t18.2) c t18.2.2.1.1 x3 x4 x5 x6 x7)) wh_feed q612 zc_X0 ls_rcvC dL_law_230 rfl rfl (Nat.le_of_ble_eq_true rfl) (Nat.le_of_ble_eq_true rfl) (fun p8 => ?_)
        refine zs_aload_n (pc := 233) 2 dL_law_233 rfl rfl ?_
        refine zs_aload_n (pc := 234) 0 dL_law_234 rfl rfl ?_
        refine zs_iload_n (pc := 235) 3 dL_law_235 rfl rfl ?_
        refine zs_iconst (pc := 236) (v := 1) dL_law_236 rfl ?_
        refine zs_iadd (pc := 237) dL_law_237 ?_
        refine zs_iald (pc := 238) (n := L) (F := xs) (ls_scr hds) dL_law_238 (fun x9 => ?_)
        refine zs_aload_n (pc := 239) 0 dL_law_239 rfl rfl ?_
        refine zs_iload_n (pc := 240) 3 dL_law_240 rfl rfl ?_
        refine zs_iconst (pc := 241) (v := 2) dL_law_241 rfl ?_
        refine zs_iadd (pc := 242) dL_law_242 ?_
        refine zs_iald (pc := 243) (n := L) (F := xs) (ls_scr hds) dL_law_243 (fun x10 => ?_)
        refine zs_aload_n (pc := 244) 0 dL_law_244 rfl rfl ?_
        refine zs_iload_n (pc := 245) 3 dL_law_245 rfl rfl ?_
        refine zs_iconst (pc := 246) (v := 3) dL_law_246 rfl ?_
        refine zs_iadd (pc := 247) dL_law_247 ?_
        refine zs_iald (pc := 248) (n := L) (F := xs) (ls_scr hds) dL_law_248 (fun x11 => ?_)
        refine zs_aload_n (pc := 249) 0 dL_law_249 rfl rfl ?_
        refine zs_iload_n (pc := 250) 3 dL_law_250 rfl rfl ?_
        refine zs_iconst (pc := 251) (v := 4) dL_law_251 rfl ?_
        refine zs_iadd (pc := 252) dL_law_252 ?_
        refine zs_iald (pc := 253) (n := L) (F := xs) (ls_scr hds) dL_law_253 (fun x12 => ?_)
        refine zs_aload_n (pc := 254) 0 dL_law_254 rfl rfl ?_
        refine zs_iload_n (pc := 255) 3 dL_law_255 rfl rfl ?_
        refine zs_iconst (pc := 256) (v := 5) dL_law_256 rfl ?_
        refine zs_iadd (pc := 257) dL_law_257 ?_
        refine zs_iald (pc := 258) (n := L) (F := xs) (ls_scr hds) dL_law_258 (fun x13 => ?_)
        refine zs_callVwI (pc := 259) [.int x9, .int x10, .int x11, .int x12, .int x13] [.int p8.1] (ls_liftM hdis (km_feed D (cs_h (w, p8.2.1, p8.2.2.1.2.2.1) p8.2.2.1.2.1 c p8.2.2.1.1) m p8.2.2.2 x9 x10 x11 x12 x13)) kv_feed q1748 zc_X10 (ls_rcvM hdis) dL_law_259 rfl rfl (Nat.le_of_ble_eq_true rfl) (Nat.le_of_ble_eq_true rfl) (fun p14 => ?_)
        refine zs_icmp_eq (pc := 262) (tgt := 1247) dL_law_262 (by decide) ?_ ?_
        · exact h1247 p14.2
        · refine zs_iconst (pc := 265) (v := 0) dL_law_265 rfl ?_
          exact zs_iret (pc := 266) dL_law_266 ((hR18 _).trans rfl) rfl rfl
      refine zs_case ?_ ?_
      · refine zs_aload_n (pc := 267) 1 dL_law_267 rfl rfl ?_
        refine zs_aload_n (pc := 268) 0 dL_law_268 rfl rfl ?_
        refine zs_iload_n (pc := 269) 3 dL_law_269 rfl rfl ?_
        refine zs_iconst (pc := 270) (v := 1) dL_law_270 rfl ?_
        refine zs_iadd (pc := 271) dL_law_271 ?_
        refine zs_iald (pc := 272) (n := L) (F := xs) (ls_scr hds) dL_law_272 (fun x15 => ?_)
        refine zs_callVwI (pc := 273) [.int x15] [] (ls_liftC hP hPm (kh_back D (w, t18.2.1, t18.2.2.1.2.2.1) P (ls_h0 m t18.2) c t18.2.2.1.1 x15)) wh_back q620 zc_X0 ls_rcvC dL_law_273 rfl rfl (Nat.le_of_ble_eq_true rfl) (Nat.le_of_ble_eq_true rfl) (fun p16 => ?_)
        refine zs_aload_n (pc := 276) 2 dL_law_276 rfl rfl ?_
        refine zs_aload_n (pc := 277) 0 dL_law_277 rfl rfl ?_
        refine zs_iload_n (pc := 278) 3 dL_law_278 rfl rfl ?_
        refine zs_iconst (pc := 279) (v := 1) dL_law_279 rfl ?_
        refine zs_iadd (pc := 280) dL_law_280 ?_
        refine zs_iald (pc := 281) (n := L) (F := xs) (ls_scr hds) dL_law_281 (fun x17 => ?_)
        refine zs_callVwI (pc := 282) [.int x17] [.int p16.1] (ls_liftM hdis (km_back D (cs_h (w, p16.2.1, p16.2.2.1.2.2.1) p16.2.2.1.2.1 c p16.2.2.1.1) m p16.2.2.2 x17)) kv_back q1756 zc_X10 (ls_rcvM hdis) dL_law_282 rfl rfl (Nat.le_of_ble_eq_true rfl) (Nat.le_of_ble_eq_true rfl) (fun p18 => ?_)
        refine zs_icmp_eq (pc := 285) (tgt := 1247) dL_law_285 (by decide) ?_ ?_
        · exact h1247 p18.2
        · refine zs_iconst (pc := 288) (v := 0) dL_law_288 rfl ?_
          exact zs_iret (pc := 289) dL_law_289 ((hR18 _).trans rfl) rfl rfl
      refine zs_case ?_ ?_
      · refine zs_aload_n (pc := 290) 1 dL_law_290 rfl rfl ?_
        refine zs_callWI (pc := 291) [] [] (kl_read (s := t18.2) hE hF hP) wh_read q624 zc_X0 ls_rcvC dL_law_291 rfl rfl (Nat.le_of_ble_eq_true rfl) (Nat.le_of_ble_eq_true rfl) (fun p19 => ?_)
        refine zs_aload_n (pc := 294) 2 dL_law_294 rfl rfl ?_
        refine zs_callVwI (pc := 295) [] [.int p19.1] (ls_liftM hdis (km_read D (cs_h (w, p19.2.1, p19.2.2.1.2.2.1) p19.2.2.1.2.1 c p19.2.2.1.1) m p19.2.2.2)) kv_read q1760 zc_X10 (ls_rcvM hdis) dL_law_295 rfl rfl (Nat.le_of_ble_eq_true rfl) (Nat.le_of_ble_eq_true rfl) (fun p20 => ?_)
        refine zs_icmp_eq (pc := 298) (tgt := 1247) dL_law_298 (by decide) ?_ ?_
        · exact h1247 p20.2
        · refine zs_iconst (pc := 301) (v := 0) dL_law_301 rfl ?_
          exact zs_iret (pc := 302) dL_law_302 ((hR18 _).trans rfl) rfl rfl
      refine zs_case ?_ ?_
      · refine zs_aload_n (pc := 303) 1 dL_law_303 rfl rfl ?_
        refine zs_callVrI (pc := 304) [] [] (ls_liftCr hP hPm (kh_place D (w, t18.2.1, t18.2.2.1.2.2.1) P (ls_h0 m t18.2) c t18.2.2.1.1)) wh_place q1112 zc_X0 ls_rcvC dL_law_304 rfl rfl (Nat.le_of_ble_eq_true rfl) (Nat.le_of_ble_eq_true rfl) (fun x21 => ?_)
        refine zs_aload_n (pc := 307) 2 dL_law_307 rfl rfl ?_
        refine zs_callVrI (pc := 308) [] [.int x21] (ls_liftMr hdis (km_place D (cs_h (w, t18.2.1, t18.2.2.1.2.2.1) t18.2.2.1.2.1 c t18.2.2.1.1) m t18.2.2.2)) kv_place q1858 zc_X10 (ls_rcvM hdis) dL_law_308 rfl rfl (Nat.le_of_ble_eq_true rfl) (Nat.le_of_ble_eq_true rfl) (fun x22 => ?_)
        refine zs_icmp_eq (pc := 311) (tgt := 1247) dL_law_311 (by decide) ?_ ?_
        · exact h1247 t18.2
        · refine zs_iconst (pc := 314) (v := 0) dL_law_314 rfl ?_
          exact zs_iret (pc := 315) dL_law_315 ((hR18 _).trans rfl) rfl rfl
      refine zs_case ?_ ?_
      · refine zs_aload_n (pc := 316) 1 dL_law_316 rfl rfl ?_
        refine zs_aload_n (pc := 317) 0 dL_law_317 rfl rfl ?_
        refine zs_iload_n (pc := 318) 3 dL_law_318 rfl rfl ?_
        refine zs_iconst (pc := 319) (v := 1) dL_law_319 rfl ?_
        refine zs_iadd (pc := 320) dL_law_320 ?_
        refine zs_iald (pc := 321) (n := L) (F := xs) (ls_scr hds) dL_law_321 (fun x23 => ?_)
        refine zs_aload_n (pc := 322) 0 dL_law_322 rfl rfl ?_
        refine zs_iload_n (pc := 323) 3 dL_law_323 rfl rfl ?_
        refine zs_iconst (pc := 324) (v := 2) dL_law_324 rfl ?_
        refine zs_iadd (pc := 325) dL_law_325 ?_
        refine zs_iald (pc := 326) (n := L) (F := xs) (ls_scr hds) dL_law_326 (fun x24 => ?_)
        refine zs_callVwI (pc := 327) [.int x23, .int x24] [] (ls_liftC hP hPm (kh_house D (w, t18.2.1, t18.2.2.1.2.2.1) P (ls_h0 m t18.2) c t18.2.2.1.1 x23 x24)) wh_house q1116 zc_X0 ls_rcvC dL_law_327 rfl rfl (Nat.le_of_ble_eq_true rfl) (Nat.le_of_ble_eq_true rfl) (fun p25 => ?_)
        refine zs_aload_n (pc := 330) 2 dL_law_330 rfl rfl ?_
        refine zs_aload_n (pc := 331) 0 dL_law_331 rfl rfl ?_
        refine zs_iload_n (pc := 332) 3 dL_law_332 rfl rfl ?_
        refine zs_iconst (pc := 333) (v := 1) dL_law_333 rfl ?_
        refine zs_iadd (pc := 334) dL_law_334 ?_
        refine zs_iald (pc := 335) (n := L) (F := xs) (ls_scr hds) dL_law_335 (fun x26 => ?_)
        refine zs_aload_n (pc := 336) 0 dL_law_336 rfl rfl ?_
        refine zs_iload_n (pc := 337) 3 dL_law_337 rfl rfl ?_
        refine zs_iconst (pc := 338) (v := 2) dL_law_338 rfl ?_
        refine zs_iadd (pc := 339) dL_law_339 ?_
        refine zs_iald (pc := 340) (n := L) (F := xs) (ls_scr hds) dL_law_340 (fun x27 => ?_)
        refine zs_callVwI (pc := 341) [.int x26, .int x27] [.int p25.1] (ls_liftM hdis (km_house D (cs_h (w, p25.2.1, p25.2.2.1.2.2.1) p25.2.2.1.2.1 c p25.2.2.1.1) m p25.2.2.2 x26 x27)) kv_house q1862 zc_X10 (ls_rcvM hdis) dL_law_341 rfl rfl (Nat.le_of_ble_eq_true rfl) (Nat.le_of_ble_eq_true rfl) (fun p28 => ?_)
        refine zs_icmp_eq (pc := 344) (tgt := 1247) dL_law_344 (by decide) ?_ ?_
        · exact h1247 p28.2
        · refine zs_iconst (pc := 347) (v := 0) dL_law_347 rfl ?_
          exact zs_iret (pc := 348) dL_law_348 ((hR18 _).trans rfl) rfl rfl
      refine zs_case ?_ ?_
      · refine zs_aload_n (pc := 349) 1 dL_law_349 rfl rfl ?_
        refine zs_aload_n (pc := 350) 0 dL_law_350 rfl rfl ?_
        refine zs_iload_n (pc := 351) 3 dL_law_351 rfl rfl ?_
        refine zs_iconst (pc := 352) (v := 1) dL_law_352 rfl ?_
        refine zs_iadd (pc := 353) dL_law_353 ?_
        refine zs_iald (pc := 354) (n := L) (F := xs) (ls_scr hds) dL_law_354 (fun x29 => ?_)
        refine zs_aload_n (pc := 355) 0 dL_law_355 rfl rfl ?_
        refine zs_iload_n (pc := 356) 3 dL_law_356 rfl rfl ?_
        refine zs_iconst (pc := 357) (v := 2) dL_law_357 rfl ?_
        refine zs_iadd (pc := 358) dL_law_358 ?_
        refine zs_iald (pc := 359) (n := L) (F := xs) (ls_scr hds) dL_law_359 (fun x30 => ?_)
        refine zs_callVrI (pc := 360) [.int x29, .int x30] [] (ls_liftCr hP hPm (kh_likes D (w, t18.2.1, t18.2.2.1.2.2.1) P (ls_h0 m t18.2) c t18.2.2.1.1 x29 x30)) wh_likes q1183 zc_X0 ls_rcvC dL_law_360 rfl rfl (Nat.le_of_ble_eq_true rfl) (Nat.le_of_ble_eq_true rfl) (fun x31 => ?_)
        refine zs_aload_n (pc := 363) 2 dL_law_363 rfl rfl ?_
        refine zs_aload_n (pc := 364) 0 dL_law_364 rfl rfl ?_
        refine zs_iload_n (pc := 365) 3 dL_law_365 rfl rfl ?_
        refine zs_iconst (pc := 366) (v := 1) dL_law_366 rfl ?_
        refine zs_iadd (pc := 367) dL_law_367 ?_
        refine zs_iald (pc := 368) (n := L) (F := xs) (ls_scr hds) dL_law_368 (fun x32 => ?_)
        refine zs_aload_n (pc := 369) 0 dL_law_369 rfl rfl ?_
        refine zs_iload_n (pc := 370) 3 dL_law_370 rfl rfl ?_
        refine zs_iconst (pc := 371) (v := 2) dL_law_371 rfl ?_
        refine zs_iadd (pc := 372) dL_law_372 ?_
        refine zs_iald (pc := 373) (n := L) (F := xs) (ls_scr hds) dL_law_373 (fun x33 => ?_)
        refine zs_callVrI (pc := 374) [.int x32, .int x33] [.int x31] (ls_liftMr hdis (km_likes D (cs_h (w, t18.2.1, t18.2.2.1.2.2.1) t18.2.2.1.2.1 c t18.2.2.1.1) m t18.2.2.2 x32 x33)) kv_likes q1920 zc_X10 (ls_rcvM hdis) dL_law_374 rfl rfl (Nat.le_of_ble_eq_true rfl) (Nat.le_of_ble_eq_true rfl) (fun x34 => ?_)
        refine zs_icmp_eq (pc := 377) (tgt := 1247) dL_law_377 (by decide) ?_ ?_
        · exact h1247 t18.2
        · refine zs_iconst (pc := 380) (v := 0) dL_law_380 rfl ?_
          exact zs_iret (pc := 381) dL_law_381 ((hR18 _).trans rfl) rfl rfl
      refine zs_case ?_ ?_
      · refine zs_aload_n (pc := 382) 1 dL_law_382 rfl rfl ?_
        refine zs_aload_n (pc := 383) 0 dL_law_383 rfl rfl ?_
        refine zs_iload_n (pc := 384) 3 dL_law_384 rfl rfl ?_
        refine zs_iconst (pc := 385) (v := 1) dL_law_385 rfl ?_
        refine zs_iadd (pc := 386) dL_law_386 ?_
        refine zs_iald (pc := 387) (n := L) (F := xs) (ls_scr hds) dL_law_387 (fun x35 => ?_)
        refine zs_aload_n (pc := 388) 0 dL_law_388 rfl rfl ?_
        refine zs_iload_n (pc := 389) 3 dL_law_389 rfl rfl ?_
        refine zs_iconst (pc := 390) (v := 2) dL_law_390 rfl ?_
        refine zs_iadd (pc := 391) dL_law_391 ?_
        refine zs_iald (pc := 392) (n := L) (F := xs) (ls_scr hds) dL_law_392 (fun x36 => ?_)
        refine zs_callVwI (pc := 393) [.int x35, .int x36] [] (ls_liftC hP hPm (kh_joins D (w, t18.2.1, t18.2.2.1.2.2.1) P (ls_h0 m t18.2) c t18.2.2.1.1 x35 x36)) wh_joins q1191 zc_X0 ls_rcvC dL_law_393 rfl rfl (Nat.le_of_ble_eq_true rfl) (Nat.le_of_ble_eq_true rfl) (fun p37 => ?_)
        refine zs_aload_n (pc := 396) 2 dL_law_396 rfl rfl ?_
        refine zs_aload_n (pc := 397) 0 dL_law_397 rfl rfl ?_
        refine zs_iload_n (pc := 398) 3 dL_law_398 rfl rfl ?_
        refine zs_iconst (pc := 399) (v := 1) dL_law_399 rfl ?_
        refine zs_iadd (pc := 400) dL_law_400 ?_
        refine zs_iald (pc := 401) (n := L) (F := xs) (ls_scr hds) dL_law_401 (fun x38 => ?_)
        refine zs_aload_n (pc := 402) 0 dL_law_402 rfl rfl ?_
        refine zs_iload_n (pc := 403) 3 dL_law_403 rfl rfl ?_
        refine zs_iconst (pc := 404) (v := 2) dL_law_404 rfl ?_
        refine zs_iadd (pc := 405) dL_law_405 ?_
        refine zs_iald (pc := 406) (n := L) (F := xs) (ls_scr hds) dL_law_406 (fun x39 => ?_)
        refine zs_callVwI (pc := 407) [.int x38, .int x39] [.int p37.1] (ls_liftM hdis (km_joins D (cs_h (w, p37.2.1, p37.2.2.1.2.2.1) p37.2.2.1.2.1 c p37.2.2.1.1) m p37.2.2.2 x38 x39)) kv_joins q1932 zc_X10 (ls_rcvM hdis) dL_law_407 rfl rfl (Nat.le_of_ble_eq_true rfl) (Nat.le_of_ble_eq_true rfl) (fun p40 => ?_)
        refine zs_icmp_eq (pc := 410) (tgt := 1247) dL_law_410 (by decide) ?_ ?_
        · exact h1247 p40.2
        · refine zs_iconst (pc := 413) (v := 0) dL_law_413 rfl ?_
          exact zs_iret (pc := 414) dL_law_414 ((hR18 _).trans rfl) rfl rfl
      refine zs_case ?_ ?_
      · refine zs_aload_n (pc := 415) 1 dL_law_415 rfl rfl ?_
        refine zs_aload_n (pc := 416) 0 dL_law_416 rfl rfl ?_
        refine zs_iload_n (pc := 417) 3 dL_law_417 rfl rfl ?_
        refine zs_iconst (pc := 418) (v := 1) dL_law_418 rfl ?_
        refine zs_iadd (pc := 419) dL_law_419 ?_
        refine zs_iald (pc := 420) (n := L) (F := xs) (ls_scr hds) dL_law_420 (fun x41 => ?_)
        refine zs_callVrI (pc := 421) [.int x41] [] (ls_liftCr hP hPm (kh_at D (w, t18.2.1, t18.2.2.1.2.2.1) P (ls_h0 m t18.2) c t18.2.2.1.1 x41)) wh_at q1199 zc_X0 ls_rcvC dL_law_421 rfl rfl (Nat.le_of_ble_eq_true rfl) (Nat.le_of_ble_eq_true rfl) (fun x42 => ?_)
        refine zs_aload_n (pc := 424) 2 dL_law_424 rfl rfl ?_
        refine zs_aload_n (pc := 425) 0 dL_law_425 rfl rfl ?_
        refine zs_iload_n (pc := 426) 3 dL_law_426 rfl rfl ?_
        refine zs_iconst (pc := 427) (v := 1) dL_law_427 rfl ?_
        refine zs_iadd (pc := 428) dL_law_428 ?_
        refine zs_iald (pc := 429) (n := L) (F := xs) (ls_scr hds) dL_law_429 (fun x43 => ?_)
        refine zs_callVrI (pc := 430) [.int x43] [.int x42] (ls_liftMr hdis (km_at D (cs_h (w, t18.2.1, t18.2.2.1.2.2.1) t18.2.2.1.2.1 c t18.2.2.1.1) m t18.2.2.2 x43)) kv_at q1944 zc_X10 (ls_rcvM hdis) dL_law_430 rfl rfl (Nat.le_of_ble_eq_true rfl) (Nat.le_of_ble_eq_true rfl) (fun x44 => ?_)
        refine zs_icmp_eq (pc := 433) (tgt := 1247) dL_law_433 (by decide) ?_ ?_
        · exact h1247 t18.2
        · refine zs_iconst (pc := 436) (v := 0) dL_law_436 rfl ?_
          exact zs_iret (pc := 437) dL_law_437 ((hR18 _).trans rfl) rfl rfl
      refine zs_case ?_ ?_
      · refine zs_aload_n (pc := 438) 1 dL_law_438 rfl rfl ?_
        refine zs_aload_n (pc := 439) 0 dL_law_439 rfl rfl ?_
        refine zs_iload_n (pc := 440) 3 dL_law_440 rfl rfl ?_
        refine zs_iconst (pc := 441) (v := 1) dL_law_441 rfl ?_
        refine zs_iadd (pc := 442) dL_law_442 ?_
        refine zs_iald (pc := 443) (n := L) (F := xs) (ls_scr hds) dL_law_443 (fun x45 => ?_)
        refine zs_callVwI (pc := 444) [.int x45] [] (ls_liftC hP hPm (kh_splice D (w, t18.2.1, t18.2.2.1.2.2.1) P (ls_h0 m t18.2) c t18.2.2.1.1 x45)) wh_splice q1207 zc_X0 ls_rcvC dL_law_444 rfl rfl (Nat.le_of_ble_eq_true rfl) (Nat.le_of_ble_eq_true rfl) (fun p46 => ?_)
        refine zs_aload_n (pc := 447) 2 dL_law_447 rfl rfl ?_
        refine zs_aload_n (pc := 448) 0 dL_law_448 rfl rfl ?_
        refine zs_iload_n (pc := 449) 3 dL_law_449 rfl rfl ?_
        refine zs_iconst (pc := 450) (v := 1) dL_law_450 rfl ?_
        refine zs_iadd (pc := 451) dL_law_451 ?_
        refine zs_iald (pc := 452) (n := L) (F := xs) (ls_scr hds) dL_law_452 (fun x47 => ?_)
        refine zs_callVwI (pc := 453) [.int x47] [.int p46.1] (ls_liftM hdis (km_splice D (cs_h (w, p46.2.1, p46.2.2.1.2.2.1) p46.2.2.1.2.1 c p46.2.2.1.1) m p46.2.2.2 x47)) kv_splice q1948 zc_X10 (ls_rcvM hdis) dL_law_453 rfl rfl (Nat.le_of_ble_eq_true rfl) (Nat.le_of_ble_eq_true rfl) (fun p48 => ?_)
        refine zs_icmp_eq (pc := 456) (tgt := 1247) dL_law_456 (by decide) ?_ ?_
        · exact h1247 p48.2
        · refine zs_iconst (pc := 459) (v := 0) dL_law_459 rfl ?_
          exact zs_iret (pc := 460) dL_law_460 ((hR18 _).trans rfl) rfl rfl
      refine zs_case ?_ ?_
      · refine zs_aload_n (pc := 461) 1 dL_law_461 rfl rfl ?_
        refine zs_callVwI (pc := 462) [] [] (ls_liftC hP hPm (kh_unsplice D (w, t18.2.1, t18.2.2.1.2.2.1) P (ls_h0 m t18.2) c t18.2.2.1.1)) wh_unsplice q1233 zc_X0 ls_rcvC dL_law_462 rfl rfl (Nat.le_of_ble_eq_true rfl) (Nat.le_of_ble_eq_true rfl) (fun p49 => ?_)
        refine zs_aload_n (pc := 465) 2 dL_law_465 rfl rfl ?_
        refine zs_callVwI (pc := 466) [] [.int p49.1] (ls_liftM hdis (km_unsplice D (cs_h (w, p49.2.1, p49.2.2.1.2.2.1) p49.2.2.1.2.1 c p49.2.2.1.1) m p49.2.2.2)) kv_unsplice q1960 zc_X10 (ls_rcvM hdis) dL_law_466 rfl rfl (Nat.le_of_ble_eq_true rfl) (Nat.le_of_ble_eq_true rfl) (fun p50 => ?_)
        refine zs_icmp_eq (pc := 469) (tgt := 1247) dL_law_469 (by decide) ?_ ?_
        · exact h1247 p50.2
        · refine zs_iconst (pc := 472) (v := 0) dL_law_472 rfl ?_
          exact zs_iret (pc := 473) dL_law_473 ((hR18 _).trans rfl) rfl rfl
      refine zs_case ?_ ?_
      · refine zs_aload_n (pc := 474) 1 dL_law_474 rfl rfl ?_
        refine zs_aload_n (pc := 475) 0 dL_law_475 rfl rfl ?_
        refine zs_iload_n (pc := 476) 3 dL_law_476 rfl rfl ?_
        refine zs_iconst (pc := 477) (v := 1) dL_law_477 rfl ?_
        refine zs_iadd (pc := 478) dL_law_478 ?_
        refine zs_iald (pc := 479) (n := L) (F := xs) (ls_scr hds) dL_law_479 (fun x51 => ?_)
        refine zs_callVwI (pc := 480) [.int x51] [] (ls_liftC hP hPm (kh_haul D (w, t18.2.1, t18.2.2.1.2.2.1) P (ls_h0 m t18.2) c t18.2.2.1.1 x51)) wh_haul q1241 zc_X0 ls_rcvC dL_law_480 rfl rfl (Nat.le_of_ble_eq_true rfl) (Nat.le_of_ble_eq_true rfl) (fun p52 => ?_)
        refine zs_aload_n (pc := 483) 2 dL_law_483 rfl rfl ?_
        refine zs_aload_n (pc := 484) 0 dL_law_484 rfl rfl ?_
        refine zs_iload_n (pc := 485) 3 dL_law_485 rfl rfl ?_
        refine zs_iconst (pc := 486) (v := 1) dL_law_486 rfl ?_
        refine zs_iadd (pc := 487) dL_law_487 ?_
        refine zs_iald (pc := 488) (n := L) (F := xs) (ls_scr hds) dL_law_488 (fun x53 => ?_)
        refine zs_callVwI (pc := 489) [.int x53] [.int p52.1] (ls_liftM hdis (km_haul D (cs_h (w, p52.2.1, p52.2.2.1.2.2.1) p52.2.2.1.2.1 c p52.2.2.1.1) m p52.2.2.2 x53)) kv_haul q1968 zc_X10 (ls_rcvM hdis) dL_law_489 rfl rfl (Nat.le_of_ble_eq_true rfl) (Nat.le_of_ble_eq_true rfl) (fun p54 => ?_)
        refine zs_icmp_eq (pc := 492) (tgt := 1247) dL_law_492 (by decide) ?_ ?_
        · exact h1247 p54.2
        · refine zs_iconst (pc := 495) (v := 0) dL_law_495 rfl ?_
          exact zs_iret (pc := 496) dL_law_496 ((hR18 _).trans rfl) rfl rfl
      refine zs_case ?_ ?_
      · refine zs_aload_n (pc := 497) 1 dL_law_497 rfl rfl ?_
        refine zs_aload_n (pc := 498) 0 dL_law_498 rfl rfl ?_
        refine zs_iload_n (pc := 499) 3 dL_law_499 rfl rfl ?_
        refine zs_iconst (pc := 500) (v := 1) dL_law_500 rfl ?_
        refine zs_iadd (pc := 501) dL_law_501 ?_
        refine zs_iald (pc := 502) (n := L) (F := xs) (ls_scr hds) dL_law_502 (fun x55 => ?_)
        refine zs_callVwI (pc := 503) [.int x55] [] (ls_liftC hP hPm (kh_years D (w, t18.2.1, t18.2.2.1.2.2.1) P (ls_h0 m t18.2) c t18.2.2.1.1 x55)) wh_years q1261 zc_X0 ls_rcvC dL_law_503 rfl rfl (Nat.le_of_ble_eq_true rfl) (Nat.le_of_ble_eq_true rfl) (fun p56 => ?_)
        refine zs_aload_n (pc := 506) 2 dL_law_506 rfl rfl ?_
        refine zs_aload_n (pc := 507) 0 dL_law_507 rfl rfl ?_
        refine zs_iload_n (pc := 508) 3 dL_law_508 rfl rfl ?_
        refine zs_iconst (pc := 509) (v := 1) dL_law_509 rfl ?_
        refine zs_iadd (pc := 510) dL_law_510 ?_
        refine zs_iald (pc := 511) (n := L) (F := xs) (ls_scr hds) dL_law_511 (fun x57 => ?_)
        refine zs_callVwI (pc := 512) [.int x57] [.int p56.1] (ls_liftM hdis (km_years D (cs_h (w, p56.2.1, p56.2.2.1.2.2.1) p56.2.2.1.2.1 c p56.2.2.1.1) m p56.2.2.2 x57)) kv_years q1987 zc_X10 (ls_rcvM hdis) dL_law_512 rfl rfl (Nat.le_of_ble_eq_true rfl) (Nat.le_of_ble_eq_true rfl) (fun p58 => ?_)
        refine zs_icmp_eq (pc := 515) (tgt := 1247) dL_law_515 (by decide) ?_ ?_
        · exact h1247 p58.2
        · refine zs_iconst (pc := 518) (v := 0) dL_law_518 rfl ?_
          exact zs_iret (pc := 519) dL_law_519 ((hR18 _).trans rfl) rfl rfl
      refine zs_case ?_ ?_
      · refine zs_aload_n (pc := 520) 1 dL_law_520 rfl rfl ?_
        refine zs_callVwB (pc := 521) [] [] (ls_liftC hP hPm (kh_undo D (w, t18.2.1, t18.2.2.1.2.2.1) P (ls_h0 m t18.2) c t18.2.2.1.1)) wh_undo q1294 zc_X0 ls_rcvC dL_law_521 rfl rfl (Nat.le_of_ble_eq_true rfl) (Nat.le_of_ble_eq_true rfl) (fun p59 => ?_)
        refine zs_aload_n (pc := 524) 2 dL_law_524 rfl rfl ?_
        refine zs_callVwB (pc := 525) [] [.int (zs_b p59.1)] (ls_liftM hdis (km_undo D (cs_h (w, p59.2.1, p59.2.2.1.2.2.1) p59.2.2.1.2.1 c p59.2.2.1.1) m p59.2.2.2)) kv_undo q2014 zc_X10 (ls_rcvM hdis) dL_law_525 rfl rfl (Nat.le_of_ble_eq_true rfl) (Nat.le_of_ble_eq_true rfl) (fun p60 => ?_)
        refine zs_icmp_eq (pc := 528) (tgt := 1247) dL_law_528 (by decide) ?_ ?_
        · exact h1247 p60.2
        · refine zs_iconst (pc := 531) (v := 0) dL_law_531 rfl ?_
          exact zs_iret (pc := 532) dL_law_532 ((hR18 _).trans rfl) rfl rfl
      refine zs_case ?_ ?_
      · refine zs_aload_n (pc := 533) 1 dL_law_533 rfl rfl ?_
        refine zs_callVwI (pc := 534) [] [] (ls_liftC hP hPm (kh_most D (w, t18.2.1, t18.2.2.1.2.2.1) P (ls_h0 m t18.2) c t18.2.2.1.1)) wh_most q1298 zc_X0 ls_rcvC dL_law_534 rfl rfl (Nat.le_of_ble_eq_true rfl) (Nat.le_of_ble_eq_true rfl) (fun p61 => ?_)
        refine zs_aload_n (pc := 537) 2 dL_law_537 rfl rfl ?_
        refine zs_callVwI (pc := 538) [] [.int p61.1] (ls_liftM hdis (km_most D (cs_h (w, p61.2.1, p61.2.2.1.2.2.1) p61.2.2.1.2.1 c p61.2.2.1.1) m p61.2.2.2)) kv_most q2018 zc_X10 (ls_rcvM hdis) dL_law_538 rfl rfl (Nat.le_of_ble_eq_true rfl) (Nat.le_of_ble_eq_true rfl) (fun p62 => ?_)
        refine zs_icmp_eq (pc := 541) (tgt := 1247) dL_law_541 (by decide) ?_ ?_
        · exact h1247 p62.2
        · refine zs_iconst (pc := 544) (v := 0) dL_law_544 rfl ?_
          exact zs_iret (pc := 545) dL_law_545 ((hR18 _).trans rfl) rfl rfl
      refine zs_case ?_ ?_
      · refine zs_aload_n (pc := 546) 1 dL_law_546 rfl rfl ?_
        refine zs_aload_n (pc := 547) 0 dL_law_547 rfl rfl ?_
        refine zs_iload_n (pc := 548) 3 dL_law_548 rfl rfl ?_
        refine zs_iconst (pc := 549) (v := 1) dL_law_549 rfl ?_
        refine zs_iadd (pc := 550) dL_law_550 ?_
        refine zs_iald (pc := 551) (n := L) (F := xs) (ls_scr hds) dL_law_551 (fun x63 => ?_)
        refine zs_callVwI (pc := 552) [.int x63] [] (ls_liftC hP hPm (kh_weakest D (w, t18.2.1, t18.2.2.1.2.2.1) P (ls_h0 m t18.2) c t18.2.2.1.1 x63)) wh_weakest q1332 zc_X0 ls_rcvC dL_law_552 rfl rfl (Nat.le_of_ble_eq_true rfl) (Nat.le_of_ble_eq_true rfl) (fun p64 => ?_)
        refine zs_aload_n (pc := 555) 2 dL_law_555 rfl rfl ?_
        refine zs_aload_n (pc := 556) 0 dL_law_556 rfl rfl ?_
        refine zs_iload_n (pc := 557) 3 dL_law_557 rfl rfl ?_
        refine zs_iconst (pc := 558) (v := 1) dL_law_558 rfl ?_
        refine zs_iadd (pc := 559) dL_law_559 ?_
        refine zs_iald (pc := 560) (n := L) (F := xs) (ls_scr hds) dL_law_560 (fun x65 => ?_)
        refine zs_callVwI (pc := 561) [.int x65] [.int p64.1] (ls_liftM hdis (km_weakest D (cs_h (w, p64.2.1, p64.2.2.1.2.2.1) p64.2.2.1.2.1 c p64.2.2.1.1) m p64.2.2.2 x65)) kv_weakest q2030 zc_X10 (ls_rcvM hdis) dL_law_561 rfl rfl (Nat.le_of_ble_eq_true rfl) (Nat.le_of_ble_eq_true rfl) (fun p66 => ?_)
        refine zs_icmp_eq (pc := 564) (tgt := 1247) dL_law_564 (by decide) ?_ ?_
        · exact h1247 p66.2
        · refine zs_iconst (pc := 567) (v := 0) dL_law_567 rfl ?_
          exact zs_iret (pc := 568) dL_law_568 ((hR18 _).trans rfl) rfl rfl
      refine zs_case ?_ ?_
      · refine zs_aload_n (pc := 569) 1 dL_law_569 rfl rfl ?_
        refine zs_aload_n (pc := 570) 0 dL_law_570 rfl rfl ?_
        refine zs_iload_n (pc := 571) 3 dL_law_571 rfl rfl ?_
        refine zs_iconst (pc := 572) (v := 1) dL_law_572 rfl ?_
        refine zs_iadd (pc := 573) dL_law_573 ?_
        refine zs_iald (pc := 574) (n := L) (F := xs) (ls_scr hds) dL_law_574 (fun x67 => ?_)
        refine zs_callVrI (pc := 575) [.int x67] [] (ls_liftCr hP hPm (kh_below D (w, t18.2.1, t18.2.2.1.2.2.1) P (ls_h0 m t18.2) c t18.2.2.1.1 x67)) wh_below q1337 zc_X0 ls_rcvC dL_law_575 rfl rfl (Nat.le_of_ble_eq_true rfl) (Nat.le_of_ble_eq_true rfl) (fun x68 => ?_)
        refine zs_aload_n (pc := 578) 2 dL_law_578 rfl rfl ?_
        refine zs_aload_n (pc := 579) 0 dL_law_579 rfl rfl ?_
        refine zs_iload_n (pc := 580) 3 dL_law_580 rfl rfl ?_
        refine zs_iconst (pc := 581) (v := 1) dL_law_581 rfl ?_
        refine zs_iadd (pc := 582) dL_law_582 ?_
        refine zs_iald (pc := 583) (n := L) (F := xs) (ls_scr hds) dL_law_583 (fun x69 => ?_)
        refine zs_callVwI (pc := 584) [.int x69] [.int x68] (ls_liftM hdis (km_below D (cs_h (w, t18.2.1, t18.2.2.1.2.2.1) t18.2.2.1.2.1 c t18.2.2.1.1) m t18.2.2.2 x69)) kv_below q2034 zc_X10 (ls_rcvM hdis) dL_law_584 rfl rfl (Nat.le_of_ble_eq_true rfl) (Nat.le_of_ble_eq_true rfl) (fun p70 => ?_)
        refine zs_icmp_eq (pc := 587) (tgt := 1247) dL_law_587 (by decide) ?_ ?_
        · exact h1247 p70.2
        · refine zs_iconst (pc := 590) (v := 0) dL_law_590 rfl ?_
          exact zs_iret (pc := 591) dL_law_591 ((hR18 _).trans rfl) rfl rfl
      refine zs_case ?_ ?_
      · refine zs_aload_n (pc := 592) 1 dL_law_592 rfl rfl ?_
        refine zs_aload_n (pc := 593) 0 dL_law_593 rfl rfl ?_
        refine zs_iload_n (pc := 594) 3 dL_law_594 rfl rfl ?_
        refine zs_iconst (pc := 595) (v := 1) dL_law_595 rfl ?_
        refine zs_iadd (pc := 596) dL_law_596 ?_
        refine zs_iald (pc := 597) (n := L) (F := xs) (ls_scr hds) dL_law_597 (fun x71 => ?_)
        refine zs_callVwI (pc := 598) [.int x71] [] (ls_liftC hP hPm (kh_orders D (w, t18.2.1, t18.2.2.1.2.2.1) P (ls_h0 m t18.2) c t18.2.2.1.1 x71)) wh_orders q1350 zc_X0 ls_rcvC dL_law_598 rfl rfl (Nat.le_of_ble_eq_true rfl) (Nat.le_of_ble_eq_true rfl) (fun p72 => ?_)
        refine zs_aload_n (pc := 601) 2 dL_law_601 rfl rfl ?_
        refine zs_aload_n (pc := 602) 0 dL_law_602 rfl rfl ?_
        refine zs_iload_n (pc := 603) 3 dL_law_603 rfl rfl ?_
        refine zs_iconst (pc := 604) (v := 1) dL_law_604 rfl ?_
        refine zs_iadd (pc := 605) dL_law_605 ?_
        refine zs_iald (pc := 606) (n := L) (F := xs) (ls_scr hds) dL_law_606 (fun x73 => ?_)
        refine zs_callVwI (pc := 607) [.int x73] [.int p72.1] (ls_liftM hdis (km_orders D (cs_h (w, p72.2.1, p72.2.2.1.2.2.1) p72.2.2.1.2.1 c p72.2.2.1.1) m p72.2.2.2 x73)) kv_orders q2062 zc_X10 (ls_rcvM hdis) dL_law_607 rfl rfl (Nat.le_of_ble_eq_true rfl) (Nat.le_of_ble_eq_true rfl) (fun p74 => ?_)
        refine zs_icmp_eq (pc := 610) (tgt := 1247) dL_law_610 (by decide) ?_ ?_
        · exact h1247 p74.2
        · refine zs_iconst (pc := 613) (v := 0) dL_law_613 rfl ?_
          exact zs_iret (pc := 614) dL_law_614 ((hR18 _).trans rfl) rfl rfl
      refine zs_case ?_ ?_
      · refine zs_aload_n (pc := 615) 1 dL_law_615 rfl rfl ?_
        refine zs_callVwI (pc := 616) [] [] (ls_liftC hP hPm (kh_peak D (w, t18.2.1, t18.2.2.1.2.2.1) P (ls_h0 m t18.2) c t18.2.2.1.1)) wh_peak q1387 zc_X0 ls_rcvC dL_law_616 rfl rfl (Nat.le_of_ble_eq_true rfl) (Nat.le_of_ble_eq_true rfl) (fun p75 => ?_)
        refine zs_aload_n (pc := 619) 2 dL_law_619 rfl rfl ?_
        refine zs_callVwI (pc := 620) [] [.int p75.1] (ls_liftM hdis (km_peak D (cs_h (w, p75.2.1, p75.2.2.1.2.2.1) p75.2.2.1.2.1 c p75.2.2.1.1) m p75.2.2.2)) kv_peak q2086 zc_X10 (ls_rcvM hdis) dL_law_620 rfl rfl (Nat.le_of_ble_eq_true rfl) (Nat.le_of_ble_eq_true rfl) (fun p76 => ?_)
        refine zs_icmp_eq (pc := 623) (tgt := 1247) dL_law_623 (by decide) ?_ ?_
        · exact h1247 p76.2
        · refine zs_iconst (pc := 626) (v := 0) dL_law_626 rfl ?_
          exact zs_iret (pc := 627) dL_law_627 ((hR18 _).trans rfl) rfl rfl
      refine zs_case ?_ ?_
      · refine zs_aload_n (pc := 628) 1 dL_law_628 rfl rfl ?_
        refine zs_aload_n (pc := 629) 0 dL_law_629 rfl rfl ?_
        refine zs_iload_n (pc := 630) 3 dL_law_630 rfl rfl ?_
        refine zs_iconst (pc := 631) (v := 1) dL_law_631 rfl ?_
        refine zs_iadd (pc := 632) dL_law_632 ?_
        refine zs_iald (pc := 633) (n := L) (F := xs) (ls_scr hds) dL_law_633 (fun x77 => ?_)
        refine zs_aload_n (pc := 634) 0 dL_law_634 rfl rfl ?_
        refine zs_iload_n (pc := 635) 3 dL_law_635 rfl rfl ?_
        refine zs_iconst (pc := 636) (v := 2) dL_law_636 rfl ?_
        refine zs_iadd (pc := 637) dL_law_637 ?_
        refine zs_iald (pc := 638) (n := L) (F := xs) (ls_scr hds) dL_law_638 (fun x78 => ?_)
        refine zs_callVwI (pc := 639) [.int x77, .int x78] [] (ls_liftC hP hPm (kh_fewest D (w, t18.2.1, t18.2.2.1.2.2.1) P (ls_h0 m t18.2) c t18.2.2.1.1 x77 x78)) wh_fewest q1391 zc_X0 ls_rcvC dL_law_639 rfl rfl (Nat.le_of_ble_eq_true rfl) (Nat.le_of_ble_eq_true rfl) (fun p79 => ?_)
        refine zs_aload_n (pc := 642) 2 dL_law_642 rfl rfl ?_
        refine zs_aload_n (pc := 643) 0 dL_law_643 rfl rfl ?_
        refine zs_iload_n (pc := 644) 3 dL_law_644 rfl rfl ?_
        refine zs_iconst (pc := 645) (v := 1) dL_law_645 rfl ?_
        refine zs_iadd (pc := 646) dL_law_646 ?_
        refine zs_iald (pc := 647) (n := L) (F := xs) (ls_scr hds) dL_law_647 (fun x80 => ?_)
        refine zs_aload_n (pc := 648) 0 dL_law_648 rfl rfl ?_
        refine zs_iload_n (pc := 649) 3 dL_law_649 rfl rfl ?_
        refine zs_iconst (pc := 650) (v := 2) dL_law_650 rfl ?_
        refine zs_iadd (pc := 651) dL_law_651 ?_
        refine zs_iald (pc := 652) (n := L) (F := xs) (ls_scr hds) dL_law_652 (fun x81 => ?_)
        refine zs_callVwI (pc := 653) [.int x80, .int x81] [.int p79.1] (ls_liftM hdis (km_fewest D (cs_h (w, p79.2.1, p79.2.2.1.2.2.1) p79.2.2.1.2.1 c p79.2.2.1.1) m p79.2.2.2 x80 x81)) kv_fewest q2094 zc_X10 (ls_rcvM hdis) dL_law_653 rfl rfl (Nat.le_of_ble_eq_true rfl) (Nat.le_of_ble_eq_true rfl) (fun p82 => ?_)
        refine zs_icmp_eq (pc := 656) (tgt := 1247) dL_law_656 (by decide) ?_ ?_
        · exact h1247 p82.2
        · refine zs_iconst (pc := 659) (v := 0) dL_law_659 rfl ?_
          exact zs_iret (pc := 660) dL_law_660 ((hR18 _).trans rfl) rfl rfl
      refine zs_case ?_ ?_
      · refine zs_aload_n (pc := 661) 1 dL_law_661 rfl rfl ?_
        refine zs_aload_n (pc := 662) 0 dL_law_662 rfl rfl ?_
        refine zs_iload_n (pc := 663) 3 dL_law_663 rfl rfl ?_
        refine zs_iconst (pc := 664) (v := 1) dL_law_664 rfl ?_
        refine zs_iadd (pc := 665) dL_law_665 ?_
        refine zs_iald (pc := 666) (n := L) (F := xs) (ls_scr hds) dL_law_666 (fun x83 => ?_)
        refine zs_callVwI (pc := 667) [.int x83] [] (ls_liftC hP hPm (kh_needed D (w, t18.2.1, t18.2.2.1.2.2.1) P (ls_h0 m t18.2) c t18.2.2.1.1 x83)) wh_needed q1410 zc_X0 ls_rcvC dL_law_667 rfl rfl (Nat.le_of_ble_eq_true rfl) (Nat.le_of_ble_eq_true rfl) (fun p84 => ?_)
        refine zs_aload_n (pc := 670) 2 dL_law_670 rfl rfl ?_
        refine zs_aload_n (pc := 671) 0 dL_law_671 rfl rfl ?_
        refine zs_iload_n (pc := 672) 3 dL_law_672 rfl rfl ?_
        refine zs_iconst (pc := 673) (v := 1) dL_law_673 rfl ?_
        refine zs_iadd (pc := 674) dL_law_674 ?_
        refine zs_iald (pc := 675) (n := L) (F := xs) (ls_scr hds) dL_law_675 (fun x85 => ?_)
        refine zs_callVwI (pc := 676) [.int x85] [.int p84.1] (ls_liftM hdis (km_needed D (cs_h (w, p84.2.1, p84.2.2.1.2.2.1) p84.2.2.1.2.1 c p84.2.2.1.1) m p84.2.2.2 x85)) kv_needed q2102 zc_X10 (ls_rcvM hdis) dL_law_676 rfl rfl (Nat.le_of_ble_eq_true rfl) (Nat.le_of_ble_eq_true rfl) (fun p86 => ?_)
        refine zs_icmp_eq (pc := 679) (tgt := 1247) dL_law_679 (by decide) ?_ ?_
        · exact h1247 p86.2
        · refine zs_iconst (pc := 682) (v := 0) dL_law_682 rfl ?_
          exact zs_iret (pc := 683) dL_law_683 ((hR18 _).trans rfl) rfl rfl
      refine zs_case ?_ ?_
      · refine zs_aload_n (pc := 684) 1 dL_law_684 rfl rfl ?_
        refine zs_aload_n (pc := 685) 0 dL_law_685 rfl rfl ?_
        refine zs_iload_n (pc := 686) 3 dL_law_686 rfl rfl ?_
        refine zs_iconst (pc := 687) (v := 1) dL_law_687 rfl ?_
        refine zs_iadd (pc := 688) dL_law_688 ?_
        refine zs_iald (pc := 689) (n := L) (F := xs) (ls_scr hds) dL_law_689 (fun x87 => ?_)
        refine zs_callVwI (pc := 690) [.int x87] [] (ls_liftC hP hPm (kh_soon D (w, t18.2.1, t18.2.2.1.2.2.1) P (ls_h0 m t18.2) c t18.2.2.1.1 x87)) wh_soon q1414 zc_X0 ls_rcvC dL_law_690 rfl rfl (Nat.le_of_ble_eq_true rfl) (Nat.le_of_ble_eq_true rfl) (fun p88 => ?_)
        refine zs_aload_n (pc := 693) 2 dL_law_693 rfl rfl ?_
        refine zs_aload_n (pc := 694) 0 dL_law_694 rfl rfl ?_
        refine zs_iload_n (pc := 695) 3 dL_law_695 rfl rfl ?_
        refine zs_iconst (pc := 696) (v := 1) dL_law_696 rfl ?_
        refine zs_iadd (pc := 697) dL_law_697 ?_
        refine zs_iald (pc := 698) (n := L) (F := xs) (ls_scr hds) dL_law_698 (fun x89 => ?_)
        refine zs_callVwI (pc := 699) [.int x89] [.int p88.1] (ls_liftM hdis (km_soon D (cs_h (w, p88.2.1, p88.2.2.1.2.2.1) p88.2.2.1.2.1 c p88.2.2.1.1) m p88.2.2.2 x89)) kv_soon q2106 zc_X10 (ls_rcvM hdis) dL_law_699 rfl rfl (Nat.le_of_ble_eq_true rfl) (Nat.le_of_ble_eq_true rfl) (fun p90 => ?_)
        refine zs_icmp_eq (pc := 702) (tgt := 1247) dL_law_702 (by decide) ?_ ?_
        · exact h1247 p90.2
        · refine zs_iconst (pc := 705) (v := 0) dL_law_705 rfl ?_
          exact zs_iret (pc := 706) dL_law_706 ((hR18 _).trans rfl) rfl rfl
      refine zs_case ?_ ?_
      · refine zs_aload_n (pc := 707) 1 dL_law_707 rfl rfl ?_
        refine zs_aload_n (pc := 708) 0 dL_law_708 rfl rfl ?_
        refine zs_iload_n (pc := 709) 3 dL_law_709 rfl rfl ?_
        refine zs_iconst (pc := 710) (v := 1) dL_law_710 rfl ?_
        refine zs_iadd (pc := 711) dL_law_711 ?_
        refine zs_iald (pc := 712) (n := L) (F := xs) (ls_scr hds) dL_law_712 (fun x91 => ?_)
        refine zs_aload_n (pc := 713) 0 dL_law_713 rfl rfl ?_
        refine zs_iload_n (pc := 714) 3 dL_law_714 rfl rfl ?_
        refine zs_iconst (pc := 715) (v := 2) dL_law_715 rfl ?_
        refine zs_iadd (pc := 716) dL_law_716 ?_
        refine zs_iald (pc := 717) (n := L) (F := xs) (ls_scr hds) dL_law_717 (fun x92 => ?_)
        refine zs_callVwI (pc := 718) [.int x91, .int x92] [] (ls_liftC hP hPm (kh_peace D (w, t18.2.1, t18.2.2.1.2.2.1) P (ls_h0 m t18.2) c t18.2.2.1.1 x91 x92)) wh_peace q1418 zc_X0 ls_rcvC dL_law_718 rfl rfl (Nat.le_of_ble_eq_true rfl) (Nat.le_of_ble_eq_true rfl) (fun p93 => ?_)
        refine zs_aload_n (pc := 721) 2 dL_law_721 rfl rfl ?_
        refine zs_aload_n (pc := 722) 0 dL_law_722 rfl rfl ?_
        refine zs_iload_n (pc := 723) 3 dL_law_723 rfl rfl ?_
        refine zs_iconst (pc := 724) (v := 1) dL_law_724 rfl ?_
        refine zs_iadd (pc := 725) dL_law_725 ?_
        refine zs_iald (pc := 726) (n := L) (F := xs) (ls_scr hds) dL_law_726 (fun x94 => ?_)
        refine zs_aload_n (pc := 727) 0 dL_law_727 rfl rfl ?_
        refine zs_iload_n (pc := 728) 3 dL_law_728 rfl rfl ?_
        refine zs_iconst (pc := 729) (v := 2) dL_law_729 rfl ?_
        refine zs_iadd (pc := 730) dL_law_730 ?_
        refine zs_iald (pc := 731) (n := L) (F := xs) (ls_scr hds) dL_law_731 (fun x95 => ?_)
        refine zs_callVwI (pc := 732) [.int x94, .int x95] [.int p93.1] (ls_liftM hdis (km_peace D (cs_h (w, p93.2.1, p93.2.2.1.2.2.1) p93.2.2.1.2.1 c p93.2.2.1.1) m p93.2.2.2 x94 x95)) kv_peace q2110 zc_X10 (ls_rcvM hdis) dL_law_732 rfl rfl (Nat.le_of_ble_eq_true rfl) (Nat.le_of_ble_eq_true rfl) (fun p96 => ?_)
        refine zs_icmp_eq (pc := 735) (tgt := 1247) dL_law_735 (by decide) ?_ ?_
        · exact h1247 p96.2
        · refine zs_iconst (pc := 738) (v := 0) dL_law_738 rfl ?_
          exact zs_iret (pc := 739) dL_law_739 ((hR18 _).trans rfl) rfl rfl
      refine zs_case ?_ ?_
      · refine zs_aload_n (pc := 740) 1 dL_law_740 rfl rfl ?_
        refine zs_aload_n (pc := 741) 0 dL_law_741 rfl rfl ?_
        refine zs_iload_n (pc := 742) 3 dL_law_742 rfl rfl ?_
        refine zs_iconst (pc := 743) (v := 1) dL_law_743 rfl ?_
        refine zs_iadd (pc := 744) dL_law_744 ?_
        refine zs_iald (pc := 745) (n := L) (F := xs) (ls_scr hds) dL_law_745 (fun x97 => ?_)
        refine zs_callVwI (pc := 746) [.int x97] [] (ls_liftC hP hPm (kh_rests D (w, t18.2.1, t18.2.2.1.2.2.1) P (ls_h0 m t18.2) c t18.2.2.1.1 x97)) wh_rests q1437 zc_X0 ls_rcvC dL_law_746 rfl rfl (Nat.le_of_ble_eq_true rfl) (Nat.le_of_ble_eq_true rfl) (fun p98 => ?_)
        refine zs_aload_n (pc := 749) 2 dL_law_749 rfl rfl ?_
        refine zs_aload_n (pc := 750) 0 dL_law_750 rfl rfl ?_
        refine zs_iload_n (pc := 751) 3 dL_law_751 rfl rfl ?_
        refine zs_iconst (pc := 752) (v := 1) dL_law_752 rfl ?_
        refine zs_iadd (pc := 753) dL_law_753 ?_
        refine zs_iald (pc := 754) (n := L) (F := xs) (ls_scr hds) dL_law_754 (fun x99 => ?_)
        refine zs_callVwI (pc := 755) [.int x99] [.int p98.1] (ls_liftM hdis (km_rests D (cs_h (w, p98.2.1, p98.2.2.1.2.2.1) p98.2.2.1.2.1 c p98.2.2.1.1) m p98.2.2.2 x99)) kv_rests q2126 zc_X10 (ls_rcvM hdis) dL_law_755 rfl rfl (Nat.le_of_ble_eq_true rfl) (Nat.le_of_ble_eq_true rfl) (fun p100 => ?_)
        refine zs_icmp_eq (pc := 758) (tgt := 1247) dL_law_758 (by decide) ?_ ?_
        · exact h1247 p100.2
        · refine zs_iconst (pc := 761) (v := 0) dL_law_761 rfl ?_
          exact zs_iret (pc := 762) dL_law_762 ((hR18 _).trans rfl) rfl rfl
      refine zs_case ?_ ?_
      · refine zs_aload_n (pc := 763) 1 dL_law_763 rfl rfl ?_
        refine zs_callVrI (pc := 764) [] [] (ls_liftCr hP hPm (kh_pivots D (w, t18.2.1, t18.2.2.1.2.2.1) P (ls_h0 m t18.2) c t18.2.2.1.1)) wh_pivots q1457 zc_X0 ls_rcvC dL_law_764 rfl rfl (Nat.le_of_ble_eq_true rfl) (Nat.le_of_ble_eq_true rfl) (fun x101 => ?_)
        refine zs_aload_n (pc := 767) 2 dL_law_767 rfl rfl ?_
        refine zs_callVwI (pc := 768) [] [.int x101] (ls_liftM hdis (km_pivots D (cs_h (w, t18.2.1, t18.2.2.1.2.2.1) t18.2.2.1.2.1 c t18.2.2.1.1) m t18.2.2.2)) kv_pivots q2153 zc_X10 (ls_rcvM hdis) dL_law_768 rfl rfl (Nat.le_of_ble_eq_true rfl) (Nat.le_of_ble_eq_true rfl) (fun p102 => ?_)
        refine zs_icmp_eq (pc := 771) (tgt := 1247) dL_law_771 (by decide) ?_ ?_
        · exact h1247 p102.2
        · refine zs_iconst (pc := 774) (v := 0) dL_law_774 rfl ?_
          exact zs_iret (pc := 775) dL_law_775 ((hR18 _).trans rfl) rfl rfl
      refine zs_case ?_ ?_
      · refine zs_aload_n (pc := 776) 1 dL_law_776 rfl rfl ?_
        refine zs_aload_n (pc := 777) 0 dL_law_777 rfl rfl ?_
        refine zs_iload_n (pc := 778) 3 dL_law_778 rfl rfl ?_
        refine zs_iconst (pc := 779) (v := 1) dL_law_779 rfl ?_
        refine zs_iadd (pc := 780) dL_law_780 ?_
        refine zs_iald (pc := 781) (n := L) (F := xs) (ls_scr hds) dL_law_781 (fun x103 => ?_)
        refine zs_callVrI (pc := 782) [.int x103] [] (ls_liftCr hP hPm (kh_share D (w, t18.2.1, t18.2.2.1.2.2.1) P (ls_h0 m t18.2) c t18.2.2.1.1 x103)) wh_share q1342 zc_X0 ls_rcvC dL_law_782 rfl rfl (Nat.le_of_ble_eq_true rfl) (Nat.le_of_ble_eq_true rfl) (fun x104 => ?_)
        refine zs_aload_n (pc := 785) 2 dL_law_785 rfl rfl ?_
        refine zs_aload_n (pc := 786) 0 dL_law_786 rfl rfl ?_
        refine zs_iload_n (pc := 787) 3 dL_law_787 rfl rfl ?_
        refine zs_iconst (pc := 788) (v := 1) dL_law_788 rfl ?_
        refine zs_iadd (pc := 789) dL_law_789 ?_
        refine zs_iald (pc := 790) (n := L) (F := xs) (ls_scr hds) dL_law_790 (fun x105 => ?_)
        refine zs_callVwI (pc := 791) [.int x105] [.int x104] (ls_liftM hdis (km_share D (cs_h (w, t18.2.1, t18.2.2.1.2.2.1) t18.2.2.1.2.1 c t18.2.2.1.1) m t18.2.2.2 x105)) kv_share q2054 zc_X10 (ls_rcvM hdis) dL_law_791 rfl rfl (Nat.le_of_ble_eq_true rfl) (Nat.le_of_ble_eq_true rfl) (fun p106 => ?_)
        refine zs_icmp_eq (pc := 794) (tgt := 1247) dL_law_794 (by decide) ?_ ?_
        · exact h1247 p106.2
        · refine zs_iconst (pc := 797) (v := 0) dL_law_797 rfl ?_
          exact zs_iret (pc := 798) dL_law_798 ((hR18 _).trans rfl) rfl rfl
      refine zs_case ?_ ?_
      · refine zs_aload_n (pc := 799) 1 dL_law_799 rfl rfl ?_
        refine zs_aload_n (pc := 800) 0 dL_law_800 rfl rfl ?_
        refine zs_iload_n (pc := 801) 3 dL_law_801 rfl rfl ?_
        refine zs_iconst (pc := 802) (v := 1) dL_law_802 rfl ?_
        refine zs_iadd (pc := 803) dL_law_803 ?_
        refine zs_iald (pc := 804) (n := L) (F := xs) (ls_scr hds) dL_law_804 (fun x107 => ?_)
        refine zs_callVwI (pc := 805) [.int x107] [] (ls_liftC hP hPm (kh_lasts D (w, t18.2.1, t18.2.2.1.2.2.1) P (ls_h0 m t18.2) c t18.2.2.1.1 x107)) wh_lasts q1306 zc_X0 ls_rcvC dL_law_805 rfl rfl (Nat.le_of_ble_eq_true rfl) (Nat.le_of_ble_eq_true rfl) (fun p108 => ?_)
        refine zs_aload_n (pc := 808) 2 dL_law_808 rfl rfl ?_
        refine zs_aload_n (pc := 809) 0 dL_law_809 rfl rfl ?_
        refine zs_iload_n (pc := 810) 3 dL_law_810 rfl rfl ?_
        refine zs_iconst (pc := 811) (v := 1) dL_law_811 rfl ?_
        refine zs_iadd (pc := 812) dL_law_812 ?_
        refine zs_iald (pc := 813) (n := L) (F := xs) (ls_scr hds) dL_law_813 (fun x109 => ?_)
        refine zs_callVwI (pc := 814) [.int x109] [.int p108.1] (ls_liftM hdis (km_lasts D (cs_h (w, p108.2.1, p108.2.2.1.2.2.1) p108.2.2.1.2.1 c p108.2.2.1.1) m p108.2.2.2 x109)) kv_lasts q2038 zc_X10 (ls_rcvM hdis) dL_law_814 rfl rfl (Nat.le_of_ble_eq_true rfl) (Nat.le_of_ble_eq_true rfl) (fun p110 => ?_)
        refine zs_icmp_eq (pc := 817) (tgt := 1247) dL_law_817 (by decide) ?_ ?_
        · exact h1247 p110.2
        · refine zs_iconst (pc := 820) (v := 0) dL_law_820 rfl ?_
          exact zs_iret (pc := 821) dL_law_821 ((hR18 _).trans rfl) rfl rfl
      refine zs_case ?_ ?_
      · refine zs_aload_n (pc := 822) 1 dL_law_822 rfl rfl ?_
        refine zs_aload_n (pc := 823) 0 dL_law_823 rfl rfl ?_
        refine zs_iload_n (pc := 824) 3 dL_law_824 rfl rfl ?_
        refine zs_iconst (pc := 825) (v := 1) dL_law_825 rfl ?_
        refine zs_iadd (pc := 826) dL_law_826 ?_
        refine zs_iald (pc := 827) (n := L) (F := xs) (ls_scr hds) dL_law_827 (fun x111 => ?_)
        refine zs_aload_n (pc := 828) 0 dL_law_828 rfl rfl ?_
        refine zs_iload_n (pc := 829) 3 dL_law_829 rfl rfl ?_
        refine zs_iconst (pc := 830) (v := 2) dL_law_830 rfl ?_
        refine zs_iadd (pc := 831) dL_law_831 ?_
        refine zs_iald (pc := 832) (n := L) (F := xs) (ls_scr hds) dL_law_832 (fun x112 => ?_)
        refine zs_aload_n (pc := 833) 0 dL_law_833 rfl rfl ?_
        refine zs_iload_n (pc := 834) 3 dL_law_834 rfl rfl ?_
        refine zs_iconst (pc := 835) (v := 3) dL_law_835 rfl ?_
        refine zs_iadd (pc := 836) dL_law_836 ?_
        refine zs_iald (pc := 837) (n := L) (F := xs) (ls_scr hds) dL_law_837 (fun x113 => ?_)
        refine zs_callVwI (pc := 838) [.int x111, .int x112, .int x113] [] (ls_liftC hP hPm (kh_harvest D (w, t18.2.1, t18.2.2.1.2.2.1) P (ls_h0 m t18.2) c t18.2.2.1.1 x111 x112 x113)) wh_harvest q1310 zc_X0 ls_rcvC dL_law_838 rfl rfl (Nat.le_of_ble_eq_true rfl) (Nat.le_of_ble_eq_true rfl) (fun p114 => ?_)
        refine zs_aload_n (pc := 841) 2 dL_law_841 rfl rfl ?_
        refine zs_aload_n (pc := 842) 0 dL_law_842 rfl rfl ?_
        refine zs_iload_n (pc := 843) 3 dL_law_843 rfl rfl ?_
        refine zs_iconst (pc := 844) (v := 1) dL_law_844 rfl ?_
        refine zs_iadd (pc := 845) dL_law_845 ?_
        refine zs_iald (pc := 846) (n := L) (F := xs) (ls_scr hds) dL_law_846 (fun x115 => ?_)
        refine zs_aload_n (pc := 847) 0 dL_law_847 rfl rfl ?_
        refine zs_iload_n (pc := 848) 3 dL_law_848 rfl rfl ?_
        refine zs_iconst (pc := 849) (v := 2) dL_law_849 rfl ?_
        refine zs_iadd (pc := 850) dL_law_850 ?_
        refine zs_iald (pc := 851) (n := L) (F := xs) (ls_scr hds) dL_law_851 (fun x116 => ?_)
        refine zs_aload_n (pc := 852) 0 dL_law_852 rfl rfl ?_
        refine zs_iload_n (pc := 853) 3 dL_law_853 rfl rfl ?_
        refine zs_iconst (pc := 854) (v := 3) dL_law_854 rfl ?_
        refine zs_iadd (pc := 855) dL_law_855 ?_
        refine zs_iald (pc := 856) (n := L) (F := xs) (ls_scr hds) dL_law_856 (fun x117 => ?_)
        refine zs_callVwI (pc := 857) [.int x115, .int x116, .int x117] [.int p114.1] (ls_liftM hdis (km_harvest D (cs_h (w, p114.2.1, p114.2.2.1.2.2.1) p114.2.2.1.2.1 c p114.2.2.1.1) m p114.2.2.2 x115 x116 x117)) kv_harvest q2157 zc_X10 (ls_rcvM hdis) dL_law_857 rfl rfl (Nat.le_of_ble_eq_true rfl) (Nat.le_of_ble_eq_true rfl) (fun p118 => ?_)
        refine zs_icmp_eq (pc := 860) (tgt := 1247) dL_law_860 (by decide) ?_ ?_
        · exact h1247 p118.2
        · refine zs_iconst (pc := 863) (v := 0) dL_law_863 rfl ?_
          exact zs_iret (pc := 864) dL_law_864 ((hR18 _).trans rfl) rfl rfl
      refine zs_case ?_ ?_
      · refine zs_aload_n (pc := 865) 1 dL_law_865 rfl rfl ?_
        refine zs_callVwI (pc := 866) [] [] (ls_liftC hP hPm (kh_swap D (w, t18.2.1, t18.2.2.1.2.2.1) P (ls_h0 m t18.2) c t18.2.2.1.1)) wh_swap q1318 zc_X0 ls_rcvC dL_law_866 rfl rfl (Nat.le_of_ble_eq_true rfl) (Nat.le_of_ble_eq_true rfl) (fun p119 => ?_)
        refine zs_aload_n (pc := 869) 2 dL_law_869 rfl rfl ?_
        refine zs_callVwI (pc := 870) [] [.int p119.1] (ls_liftM hdis (km_swap D (cs_h (w, p119.2.1, p119.2.2.1.2.2.1) p119.2.2.1.2.1 c p119.2.2.1.1) m p119.2.2.2)) kv_swap q2058 zc_X10 (ls_rcvM hdis) dL_law_870 rfl rfl (Nat.le_of_ble_eq_true rfl) (Nat.le_of_ble_eq_true rfl) (fun p120 => ?_)
        refine zs_icmp_eq (pc := 873) (tgt := 1247) dL_law_873 (by decide) ?_ ?_
        · exact h1247 p120.2
        · refine zs_iconst (pc := 876) (v := 0) dL_law_876 rfl ?_
          exact zs_iret (pc := 877) dL_law_877 ((hR18 _).trans rfl) rfl rfl
      refine zs_case ?_ ?_
      · refine zs_aload_n (pc := 878) 1 dL_law_878 rfl rfl ?_
        refine zs_aload_n (pc := 879) 0 dL_law_879 rfl rfl ?_
        refine zs_iload_n (pc := 880) 3 dL_law_880 rfl rfl ?_
        refine zs_iconst (pc := 881) (v := 1) dL_law_881 rfl ?_
        refine zs_iadd (pc := 882) dL_law_882 ?_
        refine zs_iald (pc := 883) (n := L) (F := xs) (ls_scr hds) dL_law_883 (fun x121 => ?_)
        refine zs_callVwI (pc := 884) [.int x121] [] (ls_liftC hP hPm (kh_quarrel D (w, t18.2.1, t18.2.2.1.2.2.1) P (ls_h0 m t18.2) c t18.2.2.1.1 x121)) wh_quarrel q1323 zc_X0 ls_rcvC dL_law_884 rfl rfl (Nat.le_of_ble_eq_true rfl) (Nat.le_of_ble_eq_true rfl) (fun p122 => ?_)
        refine zs_aload_n (pc := 887) 2 dL_law_887 rfl rfl ?_
        refine zs_aload_n (pc := 888) 0 dL_law_888 rfl rfl ?_
        refine zs_iload_n (pc := 889) 3 dL_law_889 rfl rfl ?_
        refine zs_iconst (pc := 890) (v := 1) dL_law_890 rfl ?_
        refine zs_iadd (pc := 891) dL_law_891 ?_
        refine zs_iald (pc := 892) (n := L) (F := xs) (ls_scr hds) dL_law_892 (fun x123 => ?_)
        refine zs_callVwI (pc := 893) [.int x123] [.int p122.1] (ls_liftM hdis (km_quarrel D (cs_h (w, p122.2.1, p122.2.2.1.2.2.1) p122.2.2.1.2.1 c p122.2.2.1.1) m p122.2.2.2 x123)) kv_quarrel q2046 zc_X10 (ls_rcvM hdis) dL_law_893 rfl rfl (Nat.le_of_ble_eq_true rfl) (Nat.le_of_ble_eq_true rfl) (fun p124 => ?_)
        refine zs_icmp_eq (pc := 896) (tgt := 1247) dL_law_896 (by decide) ?_ ?_
        · exact h1247 p124.2
        · refine zs_iconst (pc := 899) (v := 0) dL_law_899 rfl ?_
          exact zs_iret (pc := 900) dL_law_900 ((hR18 _).trans rfl) rfl rfl
      refine zs_case ?_ ?_
      · refine zs_aload_n (pc := 901) 1 dL_law_901 rfl rfl ?_
        refine zs_aload_n (pc := 902) 0 dL_law_902 rfl rfl ?_
        refine zs_iload_n (pc := 903) 3 dL_law_903 rfl rfl ?_
        refine zs_iconst (pc := 904) (v := 1) dL_law_904 rfl ?_
        refine zs_iadd (pc := 905) dL_law_905 ?_
        refine zs_iald (pc := 906) (n := L) (F := xs) (ls_scr hds) dL_law_906 (fun x125 => ?_)
        refine zs_callVrI (pc := 907) [.int x125] [] (ls_liftCr hP hPm (kh_greyest D (w, t18.2.1, t18.2.2.1.2.2.1) P (ls_h0 m t18.2) c t18.2.2.1.1 x125)) wh_greyest q1346 zc_X0 ls_rcvC dL_law_907 rfl rfl (Nat.le_of_ble_eq_true rfl) (Nat.le_of_ble_eq_true rfl) (fun x126 => ?_)
        refine zs_aload_n (pc := 910) 2 dL_law_910 rfl rfl ?_
        refine zs_aload_n (pc := 911) 0 dL_law_911 rfl rfl ?_
        refine zs_iload_n (pc := 912) 3 dL_law_912 rfl rfl ?_
        refine zs_iconst (pc := 913) (v := 1) dL_law_913 rfl ?_
        refine zs_iadd (pc := 914) dL_law_914 ?_
        refine zs_iald (pc := 915) (n := L) (F := xs) (ls_scr hds) dL_law_915 (fun x127 => ?_)
        refine zs_callVrI (pc := 916) [.int x127] [.int x126] (ls_liftMr hdis (km_greyest D (cs_h (w, t18.2.1, t18.2.2.1.2.2.1) t18.2.2.1.2.1 c t18.2.2.1.1) m t18.2.2.2 x127)) kv_greyest q2050 zc_X10 (ls_rcvM hdis) dL_law_916 rfl rfl (Nat.le_of_ble_eq_true rfl) (Nat.le_of_ble_eq_true rfl) (fun x128 => ?_)
        refine zs_icmp_eq (pc := 919) (tgt := 1247) dL_law_919 (by decide) ?_ ?_
        · exact h1247 t18.2
        · refine zs_iconst (pc := 922) (v := 0) dL_law_922 rfl ?_
          exact zs_iret (pc := 923) dL_law_923 ((hR18 _).trans rfl) rfl rfl
      refine zs_case ?_ ?_
      · refine zs_aload_n (pc := 924) 1 dL_law_924 rfl rfl ?_
        refine zs_aload_n (pc := 925) 0 dL_law_925 rfl rfl ?_
        refine zs_iload_n (pc := 926) 3 dL_law_926 rfl rfl ?_
        refine zs_iconst (pc := 927) (v := 1) dL_law_927 rfl ?_
        refine zs_iadd (pc := 928) dL_law_928 ?_
        refine zs_iald (pc := 929) (n := L) (F := xs) (ls_scr hds) dL_law_929 (fun x129 => ?_)
        refine zs_aload_n (pc := 930) 0 dL_law_930 rfl rfl ?_
        refine zs_iload_n (pc := 931) 3 dL_law_931 rfl rfl ?_
        refine zs_iconst (pc := 932) (v := 2) dL_law_932 rfl ?_
        refine zs_iadd (pc := 933) dL_law_933 ?_
        refine zs_iald (pc := 934) (n := L) (F := xs) (ls_scr hds) dL_law_934 (fun x130 => ?_)
        refine zs_aload_n (pc := 935) 0 dL_law_935 rfl rfl ?_
        refine zs_iload_n (pc := 936) 3 dL_law_936 rfl rfl ?_
        refine zs_iconst (pc := 937) (v := 3) dL_law_937 rfl ?_
        refine zs_iadd (pc := 938) dL_law_938 ?_
        refine zs_iald (pc := 939) (n := L) (F := xs) (ls_scr hds) dL_law_939 (fun x131 => ?_)
        refine zs_callVwI (pc := 940) [.int x129, .int x130, .int x131] [] (ls_liftC hP hPm (kh_then D (w, t18.2.1, t18.2.2.1.2.2.1) P (ls_h0 m t18.2) c t18.2.2.1.1 x129 x130 x131)) wh_then q1461 zc_X0 ls_rcvC dL_law_940 rfl rfl (Nat.le_of_ble_eq_true rfl) (Nat.le_of_ble_eq_true rfl) (fun p132 => ?_)
        refine zs_aload_n (pc := 943) 2 dL_law_943 rfl rfl ?_
        refine zs_aload_n (pc := 944) 0 dL_law_944 rfl rfl ?_
        refine zs_iload_n (pc := 945) 3 dL_law_945 rfl rfl ?_
        refine zs_iconst (pc := 946) (v := 1) dL_law_946 rfl ?_
        refine zs_iadd (pc := 947) dL_law_947 ?_
        refine zs_iald (pc := 948) (n := L) (F := xs) (ls_scr hds) dL_law_948 (fun x133 => ?_)
        refine zs_aload_n (pc := 949) 0 dL_law_949 rfl rfl ?_
        refine zs_iload_n (pc := 950) 3 dL_law_950 rfl rfl ?_
        refine zs_iconst (pc := 951) (v := 2) dL_law_951 rfl ?_
        refine zs_iadd (pc := 952) dL_law_952 ?_
        refine zs_iald (pc := 953) (n := L) (F := xs) (ls_scr hds) dL_law_953 (fun x134 => ?_)
        refine zs_aload_n (pc := 954) 0 dL_law_954 rfl rfl ?_
        refine zs_iload_n (pc := 955) 3 dL_law_955 rfl rfl ?_
        refine zs_iconst (pc := 956) (v := 3) dL_law_956 rfl ?_
        refine zs_iadd (pc := 957) dL_law_957 ?_
        refine zs_iald (pc := 958) (n := L) (F := xs) (ls_scr hds) dL_law_958 (fun x135 => ?_)
        refine zs_callVwI (pc := 959) [.int x133, .int x134, .int x135] [.int p132.1] (ls_liftM hdis (km_then D (cs_h (w, p132.2.1, p132.2.2.1.2.2.1) p132.2.2.1.2.1 c p132.2.2.1.1) m p132.2.2.2 x133 x134 x135)) kv_then q2165 zc_X10 (ls_rcvM hdis) dL_law_959 rfl rfl (Nat.le_of_ble_eq_true rfl) (Nat.le_of_ble_eq_true rfl) (fun p136 => ?_)
        refine zs_icmp_eq (pc := 962) (tgt := 1247) dL_law_962 (by decide) ?_ ?_
        · exact h1247 p136.2
        · refine zs_iconst (pc := 965) (v := 0) dL_law_965 rfl ?_
          exact zs_iret (pc := 966) dL_law_966 ((hR18 _).trans rfl) rfl rfl
      refine zs_case ?_ ?_
      · refine zs_aload_n (pc := 967) 1 dL_law_967 rfl rfl ?_
        refine zs_aload_n (pc := 968) 0 dL_law_968 rfl rfl ?_
        refine zs_iload_n (pc := 969) 3 dL_law_969 rfl rfl ?_
        refine zs_iconst (pc := 970) (v := 1) dL_law_970 rfl ?_
        refine zs_iadd (pc := 971) dL_law_971 ?_
        refine zs_iald (pc := 972) (n := L) (F := xs) (ls_scr hds) dL_law_972 (fun x137 => ?_)
        refine zs_aload_n (pc := 973) 0 dL_law_973 rfl rfl ?_
        refine zs_iload_n (pc := 974) 3 dL_law_974 rfl rfl ?_
        refine zs_iconst (pc := 975) (v := 2) dL_law_975 rfl ?_
        refine zs_iadd (pc := 976) dL_law_976 ?_
        refine zs_iald (pc := 977) (n := L) (F := xs) (ls_scr hds) dL_law_977 (fun x138 => ?_)
        refine zs_aload_n (pc := 978) 0 dL_law_978 rfl rfl ?_
        refine zs_iload_n (pc := 979) 3 dL_law_979 rfl rfl ?_
        refine zs_iconst (pc := 980) (v := 3) dL_law_980 rfl ?_
        refine zs_iadd (pc := 981) dL_law_981 ?_
        refine zs_iald (pc := 982) (n := L) (F := xs) (ls_scr hds) dL_law_982 (fun x139 => ?_)
        refine zs_aload_n (pc := 983) 0 dL_law_983 rfl rfl ?_
        refine zs_iload_n (pc := 984) 3 dL_law_984 rfl rfl ?_
        refine zs_iconst (pc := 985) (v := 4) dL_law_985 rfl ?_
        refine zs_iadd (pc := 986) dL_law_986 ?_
        refine zs_iald (pc := 987) (n := L) (F := xs) (ls_scr hds) dL_law_987 (fun x140 => ?_)
        refine zs_callVwI (pc := 988) [.int x137, .int x138, .int x139, .int x140] [] (ls_liftC hP hPm (kh_year D (w, t18.2.1, t18.2.2.1.2.2.1) P (ls_h0 m t18.2) c t18.2.2.1.1 x137 x138 x139 x140)) wh_year q1465 zc_X0 ls_rcvC dL_law_988 rfl rfl (Nat.le_of_ble_eq_true rfl) (Nat.le_of_ble_eq_true rfl) (fun p141 => ?_)
        refine zs_aload_n (pc := 991) 2 dL_law_991 rfl rfl ?_
        refine zs_aload_n (pc := 992) 0 dL_law_992 rfl rfl ?_
        refine zs_iload_n (pc := 993) 3 dL_law_993 rfl rfl ?_
        refine zs_iconst (pc := 994) (v := 1) dL_law_994 rfl ?_
        refine zs_iadd (pc := 995) dL_law_995 ?_
        refine zs_iald (pc := 996) (n := L) (F := xs) (ls_scr hds) dL_law_996 (fun x142 => ?_)
        refine zs_aload_n (pc := 997) 0 dL_law_997 rfl rfl ?_
        refine zs_iload_n (pc := 998) 3 dL_law_998 rfl rfl ?_
        refine zs_iconst (pc := 999) (v := 2) dL_law_999 rfl ?_
        refine zs_iadd (pc := 1000) dL_law_1000 ?_
        refine zs_iald (pc := 1001) (n := L) (F := xs) (ls_scr hds) dL_law_1001 (fun x143 => ?_)
        refine zs_aload_n (pc := 1002) 0 dL_law_1002 rfl rfl ?_
        refine zs_iload_n (pc := 1003) 3 dL_law_1003 rfl rfl ?_
        refine zs_iconst (pc := 1004) (v := 3) dL_law_1004 rfl ?_
        refine zs_iadd (pc := 1005) dL_law_1005 ?_
        refine zs_iald (pc := 1006) (n := L) (F := xs) (ls_scr hds) dL_law_1006 (fun x144 => ?_)
        refine zs_aload_n (pc := 1007) 0 dL_law_1007 rfl rfl ?_
        refine zs_iload_n (pc := 1008) 3 dL_law_1008 rfl rfl ?_
        refine zs_iconst (pc := 1009) (v := 4) dL_law_1009 rfl ?_
        refine zs_iadd (pc := 1010) dL_law_1010 ?_
        refine zs_iald (pc := 1011) (n := L) (F := xs) (ls_scr hds) dL_law_1011 (fun x145 => ?_)
        refine zs_callVwI (pc := 1012) [.int x142, .int x143, .int x144, .int x145] [.int p141.1] (ls_liftM hdis (km_year D (cs_h (w, p141.2.1, p141.2.2.1.2.2.1) p141.2.2.1.2.1 c p141.2.2.1.1) m p141.2.2.2 x142 x143 x144 x145)) kv_year q2169 zc_X10 (ls_rcvM hdis) dL_law_1012 rfl rfl (Nat.le_of_ble_eq_true rfl) (Nat.le_of_ble_eq_true rfl) (fun p146 => ?_)
        refine zs_icmp_eq (pc := 1015) (tgt := 1247) dL_law_1015 (by decide) ?_ ?_
        · exact h1247 p146.2
        · refine zs_iconst (pc := 1018) (v := 0) dL_law_1018 rfl ?_
          exact zs_iret (pc := 1019) dL_law_1019 ((hR18 _).trans rfl) rfl rfl
      refine zs_case ?_ ?_
      · refine zs_aload_n (pc := 1020) 1 dL_law_1020 rfl rfl ?_
        refine zs_aload_n (pc := 1021) 0 dL_law_1021 rfl rfl ?_
        refine zs_iload_n (pc := 1022) 3 dL_law_1022 rfl rfl ?_
        refine zs_iconst (pc := 1023) (v := 1) dL_law_1023 rfl ?_
        refine zs_iadd (pc := 1024) dL_law_1024 ?_
        refine zs_iald (pc := 1025) (n := L) (F := xs) (ls_scr hds) dL_law_1025 (fun x147 => ?_)
        refine zs_aload_n (pc := 1026) 0 dL_law_1026 rfl rfl ?_
        refine zs_iload_n (pc := 1027) 3 dL_law_1027 rfl rfl ?_
        refine zs_iconst (pc := 1028) (v := 2) dL_law_1028 rfl ?_
        refine zs_iadd (pc := 1029) dL_law_1029 ?_
        refine zs_iald (pc := 1030) (n := L) (F := xs) (ls_scr hds) dL_law_1030 (fun x148 => ?_)
        refine zs_aload_n (pc := 1031) 0 dL_law_1031 rfl rfl ?_
        refine zs_iload_n (pc := 1032) 3 dL_law_1032 rfl rfl ?_
        refine zs_iconst (pc := 1033) (v := 3) dL_law_1033 rfl ?_
        refine zs_iadd (pc := 1034) dL_law_1034 ?_
        refine zs_iald (pc := 1035) (n := L) (F := xs) (ls_scr hds) dL_law_1035 (fun x149 => ?_)
        refine zs_join (pc := 1036) (fun (p150 : Int32) => t18.2) 1044 (fun (p150 : Int32) => [(0, .ref b), (1, .ref (c + 0)), (2, .ref m), (3, .int t18.1)]) (fun (p150 : Int32) => [.int p150, .int x148, .int x147, .ref (c + 0)]) (fun p150 => ?_) (fun h1044 => ?_)
        · refine zs_callVwI (pc := 1044) [.int x147, .int x148, .int p150] [] (ls_liftC hP hPm (kh_tell D (w, t18.2.1, t18.2.2.1.2.2.1) P (ls_h0 m t18.2) c t18.2.2.1.1 x147 x148 p150)) wh_tell q1469 zc_X0 ls_rcvC dL_law_1044 rfl rfl (Nat.le_of_ble_eq_true rfl) (Nat.le_of_ble_eq_true rfl) (fun p151 => ?_)
          refine zs_aload_n (pc := 1047) 2 dL_law_1047 rfl rfl ?_
          refine zs_aload_n (pc := 1048) 0 dL_law_1048 rfl rfl ?_
          refine zs_iload_n (pc := 1049) 3 dL_law_1049 rfl rfl ?_
          refine zs_iconst (pc := 1050) (v := 1) dL_law_1050 rfl ?_
          refine zs_iadd (pc := 1051) dL_law_1051 ?_
          refine zs_iald (pc := 1052) (n := L) (F := xs) (ls_scr hds) dL_law_1052 (fun x152 => ?_)
          refine zs_aload_n (pc := 1053) 0 dL_law_1053 rfl rfl ?_
          refine zs_iload_n (pc := 1054) 3 dL_law_1054 rfl rfl ?_
          refine zs_iconst (pc := 1055) (v := 2) dL_law_1055 rfl ?_
          refine zs_iadd (pc := 1056) dL_law_1056 ?_
          refine zs_iald (pc := 1057) (n := L) (F := xs) (ls_scr hds) dL_law_1057 (fun x153 => ?_)
          refine zs_aload_n (pc := 1058) 0 dL_law_1058 rfl rfl ?_
          refine zs_iload_n (pc := 1059) 3 dL_law_1059 rfl rfl ?_
          refine zs_iconst (pc := 1060) (v := 3) dL_law_1060 rfl ?_
          refine zs_iadd (pc := 1061) dL_law_1061 ?_
          refine zs_iald (pc := 1062) (n := L) (F := xs) (ls_scr hds) dL_law_1062 (fun x154 => ?_)
          refine zs_join (pc := 1063) (fun (p155 : Int32) => p151.2) 1071 (fun (p155 : Int32) => [(0, .ref b), (1, .ref (c + 0)), (2, .ref m), (3, .int t18.1)]) (fun (p155 : Int32) => [.int p155, .int x153, .int x152, .ref m, .int p151.1]) (fun p155 => ?_) (fun h1071 => ?_)
          · refine zs_callVwI (pc := 1071) [.int x152, .int x153, .int p155] [.int p151.1] (ls_liftM hdis (km_tell D (cs_h (w, p151.2.1, p151.2.2.1.2.2.1) p151.2.2.1.2.1 c p151.2.2.1.1) m p151.2.2.2 x152 x153 p155)) kv_tell q2176 zc_X10 (ls_rcvM hdis) dL_law_1071 rfl rfl (Nat.le_of_ble_eq_true rfl) (Nat.le_of_ble_eq_true rfl) (fun p156 => ?_)
            refine zs_icmp_eq (pc := 1074) (tgt := 1247) dL_law_1074 (by decide) ?_ ?_
            · exact h1247 p156.2
            · refine zs_iconst (pc := 1077) (v := 0) dL_law_1077 rfl ?_
              exact zs_iret (pc := 1078) dL_law_1078 ((hR18 _).trans rfl) rfl rfl
          · refine zs_if_eq (pc := 1063) (tgt := 1070) dL_law_1063 (by decide) ?_ ?_
            · refine zs_iconst (pc := 1070) (v := 0) dL_law_1070 rfl ?_
              exact h1071 0
            · refine zs_iconst (pc := 1066) (v := 1) dL_law_1066 rfl ?_
              refine zs_goto (pc := 1067) (tgt := 1071) dL_law_1067 (by decide) ?_
              exact h1071 1
        · refine zs_if_eq (pc := 1036) (tgt := 1043) dL_law_1036 (by decide) ?_ ?_
          · refine zs_iconst (pc := 1043) (v := 0) dL_law_1043 rfl ?_
            exact h1044 0
          · refine zs_iconst (pc := 1039) (v := 1) dL_law_1039 rfl ?_
            refine zs_goto (pc := 1040) (tgt := 1044) dL_law_1040 (by decide) ?_
            exact h1044 1
      refine zs_case ?_ ?_
      · refine zs_aload_n (pc := 1079) 1 dL_law_1079 rfl rfl ?_
        refine zs_callVwI (pc := 1080) [] [] (ls_liftC hP hPm (kh_forget D (w, t18.2.1, t18.2.2.1.2.2.1) P (ls_h0 m t18.2) c t18.2.2.1.1)) wh_forget q1473 zc_X0 ls_rcvC dL_law_1080 rfl rfl (Nat.le_of_ble_eq_true rfl) (Nat.le_of_ble_eq_true rfl) (fun p157 => ?_)
        refine zs_aload_n (pc := 1083) 2 dL_law_1083 rfl rfl ?_
        refine zs_callVwI (pc := 1084) [] [.int p157.1] (ls_liftM hdis (km_forget D (cs_h (w, p157.2.1, p157.2.2.1.2.2.1) p157.2.2.1.2.1 c p157.2.2.1.1) m p157.2.2.2)) kv_forget q2180 zc_X10 (ls_rcvM hdis) dL_law_1084 rfl rfl (Nat.le_of_ble_eq_true rfl) (Nat.le_of_ble_eq_true rfl) (fun p158 => ?_)
        refine zs_icmp_eq (pc := 1087) (tgt := 1247) dL_law_1087 (by decide) ?_ ?_
        · exact h1247 p158.2
        · refine zs_iconst (pc := 1090) (v := 0) dL_law_1090 rfl ?_
          exact zs_iret (pc := 1091) dL_law_1091 ((hR18 _).trans rfl) rfl rfl
      refine zs_case ?_ ?_
      · refine zs_aload_n (pc := 1092) 1 dL_law_1092 rfl rfl ?_
        refine zs_aload_n (pc := 1093) 0 dL_law_1093 rfl rfl ?_
        refine zs_iload_n (pc := 1094) 3 dL_law_1094 rfl rfl ?_
        refine zs_iconst (pc := 1095) (v := 1) dL_law_1095 rfl ?_
        refine zs_iadd (pc := 1096) dL_law_1096 ?_
        refine zs_iald (pc := 1097) (n := L) (F := xs) (ls_scr hds) dL_law_1097 (fun x159 => ?_)
        refine zs_aload_n (pc := 1098) 0 dL_law_1098 rfl rfl ?_
        refine zs_iload_n (pc := 1099) 3 dL_law_1099 rfl rfl ?_
        refine zs_iconst (pc := 1100) (v := 2) dL_law_1100 rfl ?_
        refine zs_iadd (pc := 1101) dL_law_1101 ?_
        refine zs_iald (pc := 1102) (n := L) (F := xs) (ls_scr hds) dL_law_1102 (fun x160 => ?_)
        refine zs_aload_n (pc := 1103) 0 dL_law_1103 rfl rfl ?_
        refine zs_iload_n (pc := 1104) 3 dL_law_1104 rfl rfl ?_
        refine zs_iconst (pc := 1105) (v := 3) dL_law_1105 rfl ?_
        refine zs_iadd (pc := 1106) dL_law_1106 ?_
        refine zs_iald (pc := 1107) (n := L) (F := xs) (ls_scr hds) dL_law_1107 (fun x161 => ?_)
        refine zs_callVwI (pc := 1108) [.int x159, .int x160, .int x161] [] (ls_liftC hP hPm (kh_rows D (w, t18.2.1, t18.2.2.1.2.2.1) P (ls_h0 m t18.2) c t18.2.2.1.1 x159 x160 x161)) wh_rows q1477 zc_X0 ls_rcvC dL_law_1108 rfl rfl (Nat.le_of_ble_eq_true rfl) (Nat.le_of_ble_eq_true rfl) (fun p162 => ?_)
        refine zs_aload_n (pc := 1111) 2 dL_law_1111 rfl rfl ?_
        refine zs_aload_n (pc := 1112) 0 dL_law_1112 rfl rfl ?_
        refine zs_iload_n (pc := 1113) 3 dL_law_1113 rfl rfl ?_
        refine zs_iconst (pc := 1114) (v := 1) dL_law_1114 rfl ?_
        refine zs_iadd (pc := 1115) dL_law_1115 ?_
        refine zs_iald (pc := 1116) (n := L) (F := xs) (ls_scr hds) dL_law_1116 (fun x163 => ?_)
        refine zs_aload_n (pc := 1117) 0 dL_law_1117 rfl rfl ?_
        refine zs_iload_n (pc := 1118) 3 dL_law_1118 rfl rfl ?_
        refine zs_iconst (pc := 1119) (v := 2) dL_law_1119 rfl ?_
        refine zs_iadd (pc := 1120) dL_law_1120 ?_
        refine zs_iald (pc := 1121) (n := L) (F := xs) (ls_scr hds) dL_law_1121 (fun x164 => ?_)
        refine zs_aload_n (pc := 1122) 0 dL_law_1122 rfl rfl ?_
        refine zs_iload_n (pc := 1123) 3 dL_law_1123 rfl rfl ?_
        refine zs_iconst (pc := 1124) (v := 3) dL_law_1124 rfl ?_
        refine zs_iadd (pc := 1125) dL_law_1125 ?_
        refine zs_iald (pc := 1126) (n := L) (F := xs) (ls_scr hds) dL_law_1126 (fun x165 => ?_)
        refine zs_callVwI (pc := 1127) [.int x163, .int x164, .int x165] [.int p162.1] (ls_liftM hdis (km_rows D (cs_h (w, p162.2.1, p162.2.2.1.2.2.1) p162.2.2.1.2.1 c p162.2.2.1.1) m p162.2.2.2 x163 x164 x165)) kv_rows q2184 zc_X10 (ls_rcvM hdis) dL_law_1127 rfl rfl (Nat.le_of_ble_eq_true rfl) (Nat.le_of_ble_eq_true rfl) (fun p166 => ?_)
        refine zs_icmp_eq (pc := 1130) (tgt := 1247) dL_law_1130 (by decide) ?_ ?_
        · exact h1247 p166.2
        · refine zs_iconst (pc := 1133) (v := 0) dL_law_1133 rfl ?_
          exact zs_iret (pc := 1134) dL_law_1134 ((hR18 _).trans rfl) rfl rfl
      refine zs_case ?_ ?_
      · refine zs_aload_n (pc := 1135) 1 dL_law_1135 rfl rfl ?_
        refine zs_aload_n (pc := 1136) 0 dL_law_1136 rfl rfl ?_
        refine zs_iload_n (pc := 1137) 3 dL_law_1137 rfl rfl ?_
        refine zs_iconst (pc := 1138) (v := 1) dL_law_1138 rfl ?_
        refine zs_iadd (pc := 1139) dL_law_1139 ?_
        refine zs_iald (pc := 1140) (n := L) (F := xs) (ls_scr hds) dL_law_1140 (fun x167 => ?_)
        refine zs_aload_n (pc := 1141) 0 dL_law_1141 rfl rfl ?_
        refine zs_iload_n (pc := 1142) 3 dL_law_1142 rfl rfl ?_
        refine zs_iconst (pc := 1143) (v := 2) dL_law_1143 rfl ?_
        refine zs_iadd (pc := 1144) dL_law_1144 ?_
        refine zs_iald (pc := 1145) (n := L) (F := xs) (ls_scr hds) dL_law_1145 (fun x168 => ?_)
        refine zs_aload_n (pc := 1146) 0 dL_law_1146 rfl rfl ?_
        refine zs_iload_n (pc := 1147) 3 dL_law_1147 rfl rfl ?_
        refine zs_iconst (pc := 1148) (v := 3) dL_law_1148 rfl ?_
        refine zs_iadd (pc := 1149) dL_law_1149 ?_
        refine zs_iald (pc := 1150) (n := L) (F := xs) (ls_scr hds) dL_law_1150 (fun x169 => ?_)
        refine zs_callVwI (pc := 1151) [.int x167, .int x168, .int x169] [] (ls_liftC hP hPm (kh_feel D (w, t18.2.1, t18.2.2.1.2.2.1) P (ls_h0 m t18.2) c t18.2.2.1.1 x167 x168 x169)) wh_feel q1493 zc_X0 ls_rcvC dL_law_1151 rfl rfl (Nat.le_of_ble_eq_true rfl) (Nat.le_of_ble_eq_true rfl) (fun p170 => ?_)
        refine zs_aload_n (pc := 1154) 2 dL_law_1154 rfl rfl ?_
        refine zs_aload_n (pc := 1155) 0 dL_law_1155 rfl rfl ?_
        refine zs_iload_n (pc := 1156) 3 dL_law_1156 rfl rfl ?_
        refine zs_iconst (pc := 1157) (v := 1) dL_law_1157 rfl ?_
        refine zs_iadd (pc := 1158) dL_law_1158 ?_
        refine zs_iald (pc := 1159) (n := L) (F := xs) (ls_scr hds) dL_law_1159 (fun x171 => ?_)
        refine zs_aload_n (pc := 1160) 0 dL_law_1160 rfl rfl ?_
        refine zs_iload_n (pc := 1161) 3 dL_law_1161 rfl rfl ?_
        refine zs_iconst (pc := 1162) (v := 2) dL_law_1162 rfl ?_
        refine zs_iadd (pc := 1163) dL_law_1163 ?_
        refine zs_iald (pc := 1164) (n := L) (F := xs) (ls_scr hds) dL_law_1164 (fun x172 => ?_)
        refine zs_aload_n (pc := 1165) 0 dL_law_1165 rfl rfl ?_
        refine zs_iload_n (pc := 1166) 3 dL_law_1166 rfl rfl ?_
        refine zs_iconst (pc := 1167) (v := 3) dL_law_1167 rfl ?_
        refine zs_iadd (pc := 1168) dL_law_1168 ?_
        refine zs_iald (pc := 1169) (n := L) (F := xs) (ls_scr hds) dL_law_1169 (fun x173 => ?_)
        refine zs_callVwI (pc := 1170) [.int x171, .int x172, .int x173] [.int p170.1] (ls_liftM hdis (km_feel D (cs_h (w, p170.2.1, p170.2.2.1.2.2.1) p170.2.2.1.2.1 c p170.2.2.1.1) m p170.2.2.2 x171 x172 x173)) kv_feel q2199 zc_X10 (ls_rcvM hdis) dL_law_1170 rfl rfl (Nat.le_of_ble_eq_true rfl) (Nat.le_of_ble_eq_true rfl) (fun p174 => ?_)
        refine zs_icmp_eq (pc := 1173) (tgt := 1247) dL_law_1173 (by decide) ?_ ?_
        · exact h1247 p174.2
        · refine zs_iconst (pc := 1176) (v := 0) dL_law_1176 rfl ?_
          exact zs_iret (pc := 1177) dL_law_1177 ((hR18 _).trans rfl) rfl rfl
      refine zs_case ?_ ?_
      · refine zs_aload_n (pc := 1178) 1 dL_law_1178 rfl rfl ?_
        refine zs_aload_n (pc := 1179) 0 dL_law_1179 rfl rfl ?_
        refine zs_iload_n (pc := 1180) 3 dL_law_1180 rfl rfl ?_
        refine zs_iconst (pc := 1181) (v := 1) dL_law_1181 rfl ?_
        refine zs_iadd (pc := 1182) dL_law_1182 ?_
        refine zs_iald (pc := 1183) (n := L) (F := xs) (ls_scr hds) dL_law_1183 (fun x175 => ?_)
        refine zs_callVwB (pc := 1184) [.int x175] [] (ls_liftC hP hPm (kh_hold D (w, t18.2.1, t18.2.2.1.2.2.1) P (ls_h0 m t18.2) c t18.2.2.1.1 x175)) wh_hold q1497 zc_X0 ls_rcvC dL_law_1184 rfl rfl (Nat.le_of_ble_eq_true rfl) (Nat.le_of_ble_eq_true rfl) (fun p176 => ?_)
        refine zs_aload_n (pc := 1187) 2 dL_law_1187 rfl rfl ?_
        refine zs_aload_n (pc := 1188) 0 dL_law_1188 rfl rfl ?_
        refine zs_iload_n (pc := 1189) 3 dL_law_1189 rfl rfl ?_
        refine zs_iconst (pc := 1190) (v := 1) dL_law_1190 rfl ?_
        refine zs_iadd (pc := 1191) dL_law_1191 ?_
        refine zs_iald (pc := 1192) (n := L) (F := xs) (ls_scr hds) dL_law_1192 (fun x177 => ?_)
        refine zs_callVwB (pc := 1193) [.int x177] [.int (zs_b p176.1)] (ls_liftM hdis (km_hold D (cs_h (w, p176.2.1, p176.2.2.1.2.2.1) p176.2.2.1.2.1 c p176.2.2.1.1) m p176.2.2.2 x177)) kv_hold q2203 zc_X10 (ls_rcvM hdis) dL_law_1193 rfl rfl (Nat.le_of_ble_eq_true rfl) (Nat.le_of_ble_eq_true rfl) (fun p178 => ?_)
        refine zs_icmp_eq (pc := 1196) (tgt := 1247) dL_law_1196 (by decide) ?_ ?_
        · exact h1247 p178.2
        · refine zs_iconst (pc := 1199) (v := 0) dL_law_1199 rfl ?_
          exact zs_iret (pc := 1200) dL_law_1200 ((hR18 _).trans rfl) rfl rfl
      refine zs_case ?_ ?_
      · refine zs_aload_n (pc := 1201) 1 dL_law_1201 rfl rfl ?_
        refine zs_aload_n (pc := 1202) 0 dL_law_1202 rfl rfl ?_
        refine zs_iload_n (pc := 1203) 3 dL_law_1203 rfl rfl ?_
        refine zs_iconst (pc := 1204) (v := 1) dL_law_1204 rfl ?_
        refine zs_iadd (pc := 1205) dL_law_1205 ?_
        refine zs_iald (pc := 1206) (n := L) (F := xs) (ls_scr hds) dL_law_1206 (fun x179 => ?_)
        refine zs_callVwB (pc := 1207) [.int x179] [] (ls_liftC hP hPm (kh_restore D (w, t18.2.1, t18.2.2.1.2.2.1) P (ls_h0 m t18.2) c t18.2.2.1.1 x179)) wh_restore q1501 zc_X0 ls_rcvC dL_law_1207 rfl rfl (Nat.le_of_ble_eq_true rfl) (Nat.le_of_ble_eq_true rfl) (fun p180 => ?_)
        refine zs_aload_n (pc := 1210) 2 dL_law_1210 rfl rfl ?_
        refine zs_aload_n (pc := 1211) 0 dL_law_1211 rfl rfl ?_
        refine zs_iload_n (pc := 1212) 3 dL_law_1212 rfl rfl ?_
        refine zs_iconst (pc := 1213) (v := 1) dL_law_1213 rfl ?_
        refine zs_iadd (pc := 1214) dL_law_1214 ?_
        refine zs_iald (pc := 1215) (n := L) (F := xs) (ls_scr hds) dL_law_1215 (fun x181 => ?_)
        refine zs_callVwB (pc := 1216) [.int x181] [.int (zs_b p180.1)] (ls_liftM hdis (km_restore D (cs_h (w, p180.2.1, p180.2.2.1.2.2.1) p180.2.2.1.2.1 c p180.2.2.1.1) m p180.2.2.2 x181)) kv_restore q2207 zc_X10 (ls_rcvM hdis) dL_law_1216 rfl rfl (Nat.le_of_ble_eq_true rfl) (Nat.le_of_ble_eq_true rfl) (fun p182 => ?_)
        refine zs_icmp_eq (pc := 1219) (tgt := 1247) dL_law_1219 (by decide) ?_ ?_
        · exact h1247 p182.2
        · refine zs_iconst (pc := 1222) (v := 0) dL_law_1222 rfl ?_
          exact zs_iret (pc := 1223) dL_law_1223 ((hR18 _).trans rfl) rfl rfl
      refine zs_case ?_ ?_
      · refine zs_aload_n (pc := 1224) 1 dL_law_1224 rfl rfl ?_
        refine zs_aload_n (pc := 1225) 0 dL_law_1225 rfl rfl ?_
        refine zs_iload_n (pc := 1226) 3 dL_law_1226 rfl rfl ?_
        refine zs_iconst (pc := 1227) (v := 1) dL_law_1227 rfl ?_
        refine zs_iadd (pc := 1228) dL_law_1228 ?_
        refine zs_iald (pc := 1229) (n := L) (F := xs) (ls_scr hds) dL_law_1229 (fun x183 => ?_)
        refine zs_callVrI (pc := 1230) [.int x183] [] (ls_liftCr hP hPm (kh_count D (w, t18.2.1, t18.2.2.1.2.2.1) P (ls_h0 m t18.2) c t18.2.2.1.1 x183)) wh_count q1505 zc_X0 ls_rcvC dL_law_1230 rfl rfl (Nat.le_of_ble_eq_true rfl) (Nat.le_of_ble_eq_true rfl) (fun x184 => ?_)
        refine zs_aload_n (pc := 1233) 2 dL_law_1233 rfl rfl ?_
        refine zs_aload_n (pc := 1234) 0 dL_law_1234 rfl rfl ?_
        refine zs_iload_n (pc := 1235) 3 dL_law_1235 rfl rfl ?_
        refine zs_iconst (pc := 1236) (v := 1) dL_law_1236 rfl ?_
        refine zs_iadd (pc := 1237) dL_law_1237 ?_
        refine zs_iald (pc := 1238) (n := L) (F := xs) (ls_scr hds) dL_law_1238 (fun x185 => ?_)
        refine zs_callVwI (pc := 1239) [.int x185] [.int x184] (ls_liftM hdis (km_count D (cs_h (w, t18.2.1, t18.2.2.1.2.2.1) t18.2.2.1.2.1 c t18.2.2.1.1) m t18.2.2.2 x185)) kv_count q2211 zc_X10 (ls_rcvM hdis) dL_law_1239 rfl rfl (Nat.le_of_ble_eq_true rfl) (Nat.le_of_ble_eq_true rfl) (fun p186 => ?_)
        refine zs_icmp_eq (pc := 1242) (tgt := 1247) dL_law_1242 (by decide) ?_ ?_
        · exact h1247 p186.2
        · refine zs_iconst (pc := 1245) (v := 0) dL_law_1245 rfl ?_
          exact zs_iret (pc := 1246) dL_law_1246 ((hR18 _).trans rfl) rfl rfl
      refine zs_dflt ?_
      exact h1247 t18.2
