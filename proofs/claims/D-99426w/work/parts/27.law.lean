/-! generated: the law itself -/
set_option maxRecDepth 100000
theorem cyS_X0_text : yX0_text.cls ≠ "java/lang/invoke/MethodHandle" ∧ yX0_text.cls ≠ "java/lang/invoke/VarHandle" ∧ (parseMethodDescriptor yX0_text.desc).map (fun q => q.parameters.length) = some 1 := by decide +kernel
theorem cyV_X0_text : yX0_text.cls = RX0 ∧ yX0_text.cls ≠ "java/lang/invoke/MethodHandle" ∧ yX0_text.cls ≠ "java/lang/invoke/VarHandle" ∧ (parseMethodDescriptor yX0_text.desc).map (fun q => q.parameters.length) = some 1 := ⟨rfl, cyS_X0_text⟩
def f_L_law_L18 (g : Nat → Nat) (v0 : Nat) (v1 : Nat) (v2 : Nat) : Nat → Int32 → sMem → Option (sRes × sMem)
  | 0, _, _ => none
  | n + 1, v3, M => (sLen M v0).bind fun x1 => if (x1 - (6 : Int32)) < v3 then (some (.inl (some (.int (1 : Int32))), M)) else ((sIald M v0 v3).bind fun x2 => if (x2 &&& (63 : Int32)) = 0 then ((sIald M v0 (v3 + (1 : Int32))).bind fun x3 => sChk M 0 v1 (sCallI (f_X0_state v1 x3 M) fun x5 M4 => (sIald M4 v0 (v3 + (1 : Int32))).bind fun x6 => sChk M4 3 v2 (sCallI (f_X3_state v2 x6 M4) fun x8 M7 => if x5 = x8 then (f_L_law_L18 g v0 v1 v2 n (v3 + (6 : Int32)) M7) else (some (.inl (some (.int (0 : Int32))), M7))))) else if (x2 &&& (63 : Int32)) = 1 then ((sIald M v0 (v3 + (1 : Int32))).bind fun x9 => (sIald M v0 (v3 + (2 : Int32))).bind fun x10 => sChk M 0 v1 (sCallI (f_X0_worm v1 x9 x10 M) fun x12 M11 => (sIald M11 v0 (v3 + (1 : Int32))).bind fun x13 => (sIald M11 v0 (v3 + (2 : Int32))).bind fun x14 => sChk M11 3 v2 (sCallI (f_X3_worm v2 x13 x14 M11) fun x16 M15 => if x12 = x16 then (f_L_law_L18 g v0 v1 v2 n (v3 + (6 : Int32)) M15) else (some (.inl (some (.int (0 : Int32))), M15))))) else if (x2 &&& (63 : Int32)) = 2 then ((sIald M v0 (v3 + (1 : Int32))).bind fun x17 => (sIald M v0 (v3 + (2 : Int32))).bind fun x18 => (sIald M v0 (v3 + (3 : Int32))).bind fun x19 => sChk M 0 v1 (sCallI (f_X0_set v1 x17 x18 x19 M) fun x21 M20 => (sIald M20 v0 (v3 + (1 : Int32))).bind fun x22 => (sIald M20 v0 (v3 + (2 : Int32))).bind fun x23 => (sIald M20 v0 (v3 + (3 : Int32))).bind fun x24 => sChk M20 3 v2 (sCallI (f_X3_set v2 x22 x23 x24 M20) fun x26 M25 => if x21 = x26 then (f_L_law_L18 g v0 v1 v2 n (v3 + (6 : Int32)) M25) else (some (.inl (some (.int (0 : Int32))), M25))))) else if (x2 &&& (63 : Int32)) = 3 then ((sIald M v0 (v3 + (1 : Int32))).bind fun x27 => (sIald M v0 (v3 + (2 : Int32))).bind fun x28 => (sIald M v0 (v3 + (3 : Int32))).bind fun x29 => sChk M 0 v1 (sCallI (f_X0_feedOne v1 x27 x28 x29 M) fun x31 M30 => (sIald M30 v0 (v3 + (1 : Int32))).bind fun x32 => (sIald M30 v0 (v3 + (2 : Int32))).bind fun x33 => (sIald M30 v0 (v3 + (3 : Int32))).bind fun x34 => sChk M30 3 v2 (sCallI (f_X3_feedOne v2 x32 x33 x34 M30) fun x36 M35 => if x31 = x36 then (f_L_law_L18 g v0 v1 v2 n (v3 + (6 : Int32)) M35) else (some (.inl (some (.int (0 : Int32))), M35))))) else if (x2 &&& (63 : Int32)) = 4 then ((sIald M v0 (v3 + (1 : Int32))).bind fun x37 => (sIald M v0 (v3 + (2 : Int32))).bind fun x38 => sChk M 0 v1 (sCallI (f_X0_cocoon v1 x37 (if x38 = 0 then (0 : Int32) else (1 : Int32)) M) fun x40 M39 => (sIald M39 v0 (v3 + (1 : Int32))).bind fun x41 => (sIald M39 v0 (v3 + (2 : Int32))).bind fun x42 => sChk M39 3 v2 (sCallI (f_X3_cocoon v2 x41 (if x42 = 0 then (0 : Int32) else (1 : Int32)) M39) fun x44 M43 => if x40 = x44 then (f_L_law_L18 g v0 v1 v2 n (v3 + (6 : Int32)) M43) else (some (.inl (some (.int (0 : Int32))), M43))))) else if (x2 &&& (63 : Int32)) = 5 then ((sIald M v0 (v3 + (1 : Int32))).bind fun x45 => sChk M 0 v1 (sCallI (f_X0_days v1 x45 M) fun x47 M46 => (sIald M46 v0 (v3 + (1 : Int32))).bind fun x48 => sChk M46 3 v2 (sCallI (f_X3_days v2 x48 M46) fun x50 M49 => if x47 = x50 then (f_L_law_L18 g v0 v1 v2 n (v3 + (6 : Int32)) M49) else (some (.inl (some (.int (0 : Int32))), M49))))) else if (x2 &&& (63 : Int32)) = 6 then ((sIald M v0 (v3 + (1 : Int32))).bind fun x51 => (sIald M v0 (v3 + (2 : Int32))).bind fun x52 => (sIald M v0 (v3 + (3 : Int32))).bind fun x53 => (sIald M v0 (v3 + (4 : Int32))).bind fun x54 => (sIald M v0 (v3 + (5 : Int32))).bind fun x55 => sChk M 0 v1 (sCallI (f_X0_feed v1 x51 x52 x53 x54 x55 M) fun x57 M56 => (sIald M56 v0 (v3 + (1 : Int32))).bind fun x58 => (sIald M56 v0 (v3 + (2 : Int32))).bind fun x59 => (sIald M56 v0 (v3 + (3 : Int32))).bind fun x60 => (sIald M56 v0 (v3 + (4 : Int32))).bind fun x61 => (sIald M56 v0 (v3 + (5 : Int32))).bind fun x62 => sChk M56 3 v2 (sCallI (f_X3_feed v2 x58 x59 x60 x61 x62 M56) fun x64 M63 => if x57 = x64 then (f_L_law_L18 g v0 v1 v2 n (v3 + (6 : Int32)) M63) else (some (.inl (some (.int (0 : Int32))), M63))))) else if (x2 &&& (63 : Int32)) = 7 then ((sIald M v0 (v3 + (1 : Int32))).bind fun x65 => sChk M 0 v1 (sCallI (f_X0_end v1 x65 M) fun x67 M66 => (sIald M66 v0 (v3 + (1 : Int32))).bind fun x68 => sChk M66 3 v2 (sCallI (f_X3_end v2 x68 M66) fun x70 M69 => if x67 = x70 then (f_L_law_L18 g v0 v1 v2 n (v3 + (6 : Int32)) M69) else (some (.inl (some (.int (0 : Int32))), M69))))) else if (x2 &&& (63 : Int32)) = 8 then ((sIald M v0 (v3 + (1 : Int32))).bind fun x71 => sChk M 0 v1 (sCallI (f_X0_text g v1 x71 M) fun x73 M72 => (sIald M72 v0 (v3 + (1 : Int32))).bind fun x74 => sChk M72 3 v2 (sCallI (f_X3_text g v2 x74 M72) fun x76 M75 => if x73 = x76 then (f_L_law_L18 g v0 v1 v2 n (v3 + (6 : Int32)) M75) else (some (.inl (some (.int (0 : Int32))), M75))))) else if (x2 &&& (63 : Int32)) = 9 then ((sIald M v0 (v3 + (1 : Int32))).bind fun x77 => sChk M 0 v1 (sCallI (f_X0_fault v1 x77 M) fun x79 M78 => (sIald M78 v0 (v3 + (1 : Int32))).bind fun x80 => sChk M78 3 v2 (sCallI (f_X3_fault v2 x80 M78) fun x82 M81 => if x79 = x82 then (f_L_law_L18 g v0 v1 v2 n (v3 + (6 : Int32)) M81) else (some (.inl (some (.int (0 : Int32))), M81))))) else if (x2 &&& (63 : Int32)) = 10 then ((sIald M v0 (v3 + (1 : Int32))).bind fun x83 => (sIald M v0 (v3 + (2 : Int32))).bind fun x84 => sChk M 0 v1 (sCallI (f_X0_of v1 x83 x84 M) fun x86 M85 => (sIald M85 v0 (v3 + (1 : Int32))).bind fun x87 => (sIald M85 v0 (v3 + (2 : Int32))).bind fun x88 => sChk M85 3 v2 (sCallI (f_X3_of v2 x87 x88 M85) fun x90 M89 => if x86 = x90 then (f_L_law_L18 g v0 v1 v2 n (v3 + (6 : Int32)) M89) else (some (.inl (some (.int (0 : Int32))), M89))))) else if (x2 &&& (63 : Int32)) = 11 then ((sIald M v0 (v3 + (1 : Int32))).bind fun x91 => (sIald M v0 (v3 + (2 : Int32))).bind fun x92 => sChk M 0 v1 (sCallI (f_X0_fact_2 v1 x91 x92 M) fun x94 M93 => (sIald M93 v0 (v3 + (1 : Int32))).bind fun x95 => (sIald M93 v0 (v3 + (2 : Int32))).bind fun x96 => sChk M93 3 v2 (sCallI (f_X3_fact v2 x95 x96 M93) fun x98 M97 => if x94 = x98 then (f_L_law_L18 g v0 v1 v2 n (v3 + (6 : Int32)) M97) else (some (.inl (some (.int (0 : Int32))), M97))))) else if (x2 &&& (63 : Int32)) = 12 then ((sIald M v0 (v3 + (1 : Int32))).bind fun x99 => (sIald M v0 (v3 + (2 : Int32))).bind fun x100 => sChk M 0 v1 (sCallI (f_X0_book v1 x99 x100 M) fun x102 M101 => (sIald M101 v0 (v3 + (1 : Int32))).bind fun x103 => (sIald M101 v0 (v3 + (2 : Int32))).bind fun x104 => sChk M101 3 v2 (sCallI (f_X3_book v2 x103 x104 M101) fun x106 M105 => if x102 = x106 then (f_L_law_L18 g v0 v1 v2 n (v3 + (6 : Int32)) M105) else (some (.inl (some (.int (0 : Int32))), M105))))) else if (x2 &&& (63 : Int32)) = 13 then ((sIald M v0 (v3 + (1 : Int32))).bind fun x107 => (sIald M v0 (v3 + (2 : Int32))).bind fun x108 => sChk M 0 v1 (sCallI (f_X0_goes v1 x107 x108 M) fun x110 M109 => (sIald M109 v0 (v3 + (1 : Int32))).bind fun x111 => (sIald M109 v0 (v3 + (2 : Int32))).bind fun x112 => sChk M109 3 v2 (sCallI (f_X3_goes v2 x111 x112 M109) fun x114 M113 => if x110 = x114 then (f_L_law_L18 g v0 v1 v2 n (v3 + (6 : Int32)) M113) else (some (.inl (some (.int (0 : Int32))), M113))))) else if (x2 &&& (63 : Int32)) = 14 then ((sIald M v0 (v3 + (1 : Int32))).bind fun x115 => (sIald M v0 (v3 + (2 : Int32))).bind fun x116 => (sIald M v0 (v3 + (3 : Int32))).bind fun x117 => sChk M 0 v1 (sCallI (f_X0_would v1 x115 x116 x117 M) fun x119 M118 => (sIald M118 v0 (v3 + (1 : Int32))).bind fun x120 => (sIald M118 v0 (v3 + (2 : Int32))).bind fun x121 => (sIald M118 v0 (v3 + (3 : Int32))).bind fun x122 => sChk M118 3 v2 (sCallI (f_X3_would v2 x120 x121 x122 M118) fun x124 M123 => if x119 = x124 then (f_L_law_L18 g v0 v1 v2 n (v3 + (6 : Int32)) M123) else (some (.inl (some (.int (0 : Int32))), M123))))) else if (x2 &&& (63 : Int32)) = 15 then ((sIald M v0 (v3 + (1 : Int32))).bind fun x125 => (sIald M v0 (v3 + (2 : Int32))).bind fun x126 => sChk M 0 v1 (sCallI (f_X0_reads v1 x125 x126 M) fun x128 M127 => (sIald M127 v0 (v3 + (1 : Int32))).bind fun x129 => (sIald M127 v0 (v3 + (2 : Int32))).bind fun x130 => sChk M127 3 v2 (sCallI (f_X3_reads v2 x129 x130 M127) fun x132 M131 => if x128 = x132 then (f_L_law_L18 g v0 v1 v2 n (v3 + (6 : Int32)) M131) else (some (.inl (some (.int (0 : Int32))), M131))))) else if (x2 &&& (63 : Int32)) = 16 then ((sIald M v0 (v3 + (1 : Int32))).bind fun x133 => sChk M 0 v1 (sCallI (f_X0_fits v1 x133 M) fun x135 M134 => (sIald M134 v0 (v3 + (1 : Int32))).bind fun x136 => sChk M134 3 v2 (sCallI (f_X3_fits v2 x136 M134) fun x138 M137 => if x135 = x138 then (f_L_law_L18 g v0 v1 v2 n (v3 + (6 : Int32)) M137) else (some (.inl (some (.int (0 : Int32))), M137))))) else if (x2 &&& (63 : Int32)) = 17 then ((sIald M v0 (v3 + (1 : Int32))).bind fun x139 => sChk M 0 v1 (sCallI (f_X0_reel v1 x139 M) fun x141 M140 => (sIald M140 v0 (v3 + (1 : Int32))).bind fun x142 => sChk M140 3 v2 (sCallI (f_X3_reel v2 x142 M140) fun x144 M143 => if x141 = x144 then (f_L_law_L18 g v0 v1 v2 n (v3 + (6 : Int32)) M143) else (some (.inl (some (.int (0 : Int32))), M143))))) else if (x2 &&& (63 : Int32)) = 18 then ((sIald M v0 (v3 + (1 : Int32))).bind fun x145 => (sIald M v0 (v3 + (2 : Int32))).bind fun x146 => sChk M 0 v1 (sCallI (f_X0_unlike v1 x145 x146 M) fun x148 M147 => (sIald M147 v0 (v3 + (1 : Int32))).bind fun x149 => (sIald M147 v0 (v3 + (2 : Int32))).bind fun x150 => sChk M147 3 v2 (sCallI (f_X3_unlike v2 x149 x150 M147) fun x152 M151 => if x148 = x152 then (f_L_law_L18 g v0 v1 v2 n (v3 + (6 : Int32)) M151) else (some (.inl (some (.int (0 : Int32))), M151))))) else if (x2 &&& (63 : Int32)) = 19 then ((sIald M v0 (v3 + (1 : Int32))).bind fun x153 => (sIald M v0 (v3 + (2 : Int32))).bind fun x154 => sChk M 0 v1 (sCallI (f_X0_knot v1 x153 x154 M) fun x156 M155 => (sIald M155 v0 (v3 + (1 : Int32))).bind fun x157 => (sIald M155 v0 (v3 + (2 : Int32))).bind fun x158 => sChk M155 3 v2 (sCallI (f_X3_knot v2 x157 x158 M155) fun x160 M159 => if x156 = x160 then (f_L_law_L18 g v0 v1 v2 n (v3 + (6 : Int32)) M159) else (some (.inl (some (.int (0 : Int32))), M159))))) else if (x2 &&& (63 : Int32)) = 20 then ((sIald M v0 (v3 + (1 : Int32))).bind fun x161 => sChk M 0 v1 (sCallI (f_X0_cuts v1 x161 M) fun x163 M162 => (sIald M162 v0 (v3 + (1 : Int32))).bind fun x164 => sChk M162 3 v2 (sCallI (f_X3_cuts v2 x164 M162) fun x166 M165 => if x163 = x166 then (f_L_law_L18 g v0 v1 v2 n (v3 + (6 : Int32)) M165) else (some (.inl (some (.int (0 : Int32))), M165))))) else if (x2 &&& (63 : Int32)) = 21 then ((sIald M v0 (v3 + (1 : Int32))).bind fun x167 => (sIald M v0 (v3 + (2 : Int32))).bind fun x168 => sChk M 0 v1 (sCallI (f_X0_keeps v1 x167 x168 M) fun x170 M169 => (sIald M169 v0 (v3 + (1 : Int32))).bind fun x171 => (sIald M169 v0 (v3 + (2 : Int32))).bind fun x172 => sChk M169 3 v2 (sCallI (f_X3_keeps v2 x171 x172 M169) fun x174 M173 => if x170 = x174 then (f_L_law_L18 g v0 v1 v2 n (v3 + (6 : Int32)) M173) else (some (.inl (some (.int (0 : Int32))), M173))))) else if (x2 &&& (63 : Int32)) = 22 then ((sIald M v0 (v3 + (1 : Int32))).bind fun x175 => sChk M 0 v1 (sCallI (f_X0_trays v1 x175 M) fun x177 M176 => (sIald M176 v0 (v3 + (1 : Int32))).bind fun x178 => sChk M176 3 v2 (sCallI (f_X3_trays v2 x178 M176) fun x180 M179 => if x177 = x180 then (f_L_law_L18 g v0 v1 v2 n (v3 + (6 : Int32)) M179) else (some (.inl (some (.int (0 : Int32))), M179))))) else if (x2 &&& (63 : Int32)) = 23 then ((sIald M v0 (v3 + (1 : Int32))).bind fun x181 => sChk M 0 v1 (sCallI (f_X0_answered v1 x181 M) fun x183 M182 => (sIald M182 v0 (v3 + (1 : Int32))).bind fun x184 => sChk M182 3 v2 (sCallI (f_X3_answered v2 x184 M182) fun x186 M185 => if x183 = x186 then (f_L_law_L18 g v0 v1 v2 n (v3 + (6 : Int32)) M185) else (some (.inl (some (.int (0 : Int32))), M185))))) else if (x2 &&& (63 : Int32)) = 24 then ((sIald M v0 (v3 + (1 : Int32))).bind fun x187 => sChk M 0 v1 (sCallI (f_X0_scarf v1 x187 M) fun x189 M188 => (sIald M188 v0 (v3 + (1 : Int32))).bind fun x190 => sChk M188 3 v2 (sCallI (f_X3_scarf v2 x190 M188) fun x192 M191 => if x189 = x192 then (f_L_law_L18 g v0 v1 v2 n (v3 + (6 : Int32)) M191) else (some (.inl (some (.int (0 : Int32))), M191))))) else if (x2 &&& (63 : Int32)) = 25 then ((sIald M v0 (v3 + (1 : Int32))).bind fun x193 => sChk M 0 v1 (sCallI (f_X0_whose v1 x193 M) fun x195 M194 => (sIald M194 v0 (v3 + (1 : Int32))).bind fun x196 => sChk M194 3 v2 (sCallI (f_X3_whose v2 x196 M194) fun x198 M197 => if x195 = x198 then (f_L_law_L18 g v0 v1 v2 n (v3 + (6 : Int32)) M197) else (some (.inl (some (.int (0 : Int32))), M197))))) else if (x2 &&& (63 : Int32)) = 26 then ((sIald M v0 (v3 + (1 : Int32))).bind fun x199 => (sIald M v0 (v3 + (2 : Int32))).bind fun x200 => (sIald M v0 (v3 + (3 : Int32))).bind fun x201 => sChk M 0 v1 (sCallI (f_X0_forged v1 x199 x200 x201 M) fun x203 M202 => (sIald M202 v0 (v3 + (1 : Int32))).bind fun x204 => (sIald M202 v0 (v3 + (2 : Int32))).bind fun x205 => (sIald M202 v0 (v3 + (3 : Int32))).bind fun x206 => sChk M202 3 v2 (sCallI (f_X3_forged v2 x204 x205 x206 M202) fun x208 M207 => if x203 = x208 then (f_L_law_L18 g v0 v1 v2 n (v3 + (6 : Int32)) M207) else (some (.inl (some (.int (0 : Int32))), M207))))) else if (x2 &&& (63 : Int32)) = 27 then ((sIald M v0 (v3 + (1 : Int32))).bind fun x209 => (sIald M v0 (v3 + (2 : Int32))).bind fun x210 => sChk M 0 v1 (sCallI (f_X0_own v1 x209 x210 M) fun x212 M211 => (sIald M211 v0 (v3 + (1 : Int32))).bind fun x213 => (sIald M211 v0 (v3 + (2 : Int32))).bind fun x214 => sChk M211 3 v2 (sCallI (f_X3_own v2 x213 x214 M211) fun x216 M215 => if x212 = x216 then (f_L_law_L18 g v0 v1 v2 n (v3 + (6 : Int32)) M215) else (some (.inl (some (.int (0 : Int32))), M215))))) else if (x2 &&& (63 : Int32)) = 28 then (sChk M 0 v1 (sCallI (f_X0_feedings v1 M) fun x218 M217 => sChk M217 3 v2 (sCallI (f_X3_feedings v2 M217) fun x220 M219 => if x218 = x220 then (f_L_law_L18 g v0 v1 v2 n (v3 + (6 : Int32)) M219) else (some (.inl (some (.int (0 : Int32))), M219))))) else if (x2 &&& (63 : Int32)) = 29 then ((sIald M v0 (v3 + (1 : Int32))).bind fun x221 => sChk M 0 v1 (sCallI (f_X0_dyes v1 x221 M) fun x223 M222 => (sIald M222 v0 (v3 + (1 : Int32))).bind fun x224 => sChk M222 3 v2 (sCallI (f_X3_dyes v2 x224 M222) fun x226 M225 => if x223 = x226 then (f_L_law_L18 g v0 v1 v2 n (v3 + (6 : Int32)) M225) else (some (.inl (some (.int (0 : Int32))), M225))))) else if (x2 &&& (63 : Int32)) = 30 then ((sIald M v0 (v3 + (1 : Int32))).bind fun x227 => sChk M 0 v1 (sCallI (f_X0_tally v1 x227 M) fun x229 M228 => (sIald M228 v0 (v3 + (1 : Int32))).bind fun x230 => sChk M228 3 v2 (sCallI (f_X3_tally v2 x230 M228) fun x232 M231 => if x229 = x232 then (f_L_law_L18 g v0 v1 v2 n (v3 + (6 : Int32)) M231) else (some (.inl (some (.int (0 : Int32))), M231))))) else if (x2 &&& (63 : Int32)) = 31 then ((sIald M v0 (v3 + (1 : Int32))).bind fun x233 => (sIald M v0 (v3 + (2 : Int32))).bind fun x234 => sChk M 0 v1 (sCallI (f_X0_splice v1 x233 x234 M) fun x236 M235 => (sIald M235 v0 (v3 + (1 : Int32))).bind fun x237 => (sIald M235 v0 (v3 + (2 : Int32))).bind fun x238 => sChk M235 3 v2 (sCallI (f_X3_splice v2 x237 x238 M235) fun x240 M239 => if x236 = x240 then (f_L_law_L18 g v0 v1 v2 n (v3 + (6 : Int32)) M239) else (some (.inl (some (.int (0 : Int32))), M239))))) else if (x2 &&& (63 : Int32)) = 32 then ((sIald M v0 (v3 + (1 : Int32))).bind fun x241 => sChk M 0 v1 (sCallI (f_X0_gaps v1 x241 M) fun x243 M242 => (sIald M242 v0 (v3 + (1 : Int32))).bind fun x244 => sChk M242 3 v2 (sCallI (f_X3_gaps v2 x244 M242) fun x246 M245 => if x243 = x246 then (f_L_law_L18 g v0 v1 v2 n (v3 + (6 : Int32)) M245) else (some (.inl (some (.int (0 : Int32))), M245))))) else if (x2 &&& (63 : Int32)) = 33 then ((sIald M v0 (v3 + (1 : Int32))).bind fun x247 => (sIald M v0 (v3 + (2 : Int32))).bind fun x248 => sChk M 0 v1 (sCallI (f_X0_both_2 v1 x247 x248 M) fun x250 M249 => (sIald M249 v0 (v3 + (1 : Int32))).bind fun x251 => (sIald M249 v0 (v3 + (2 : Int32))).bind fun x252 => sChk M249 3 v2 (sCallI (f_X3_both v2 x251 x252 M249) fun x254 M253 => if x250 = x254 then (f_L_law_L18 g v0 v1 v2 n (v3 + (6 : Int32)) M253) else (some (.inl (some (.int (0 : Int32))), M253))))) else if (x2 &&& (63 : Int32)) = 34 then ((sIald M v0 (v3 + (1 : Int32))).bind fun x255 => sChk M 0 v1 (sCallI (f_X0_pull v1 x255 M) fun x257 M256 => (sIald M256 v0 (v3 + (1 : Int32))).bind fun x258 => sChk M256 3 v2 (sCallI (f_X3_pull v2 x258 M256) fun x260 M259 => if x257 = x260 then (f_L_law_L18 g v0 v1 v2 n (v3 + (6 : Int32)) M259) else (some (.inl (some (.int (0 : Int32))), M259))))) else if (x2 &&& (63 : Int32)) = 35 then ((sIald M v0 (v3 + (1 : Int32))).bind fun x261 => sChk M 0 v1 (sCallI (f_X0_game v1 x261 M) fun x263 M262 => (sIald M262 v0 (v3 + (1 : Int32))).bind fun x264 => sChk M262 3 v2 (sCallI (f_X3_game v2 x264 M262) fun x266 M265 => if x263 = x266 then (f_L_law_L18 g v0 v1 v2 n (v3 + (6 : Int32)) M265) else (some (.inl (some (.int (0 : Int32))), M265))))) else if (x2 &&& (63 : Int32)) = 36 then (sChk M 0 v1 (sCallI (f_X0_undo v1 M) fun x268 M267 => sChk M267 3 v2 (sCallI (f_X3_undo v2 M267) fun x270 M269 => if x268 = x270 then (f_L_law_L18 g v0 v1 v2 n (v3 + (6 : Int32)) M269) else (some (.inl (some (.int (0 : Int32))), M269))))) else if (x2 &&& (63 : Int32)) = 37 then ((sIald M v0 (v3 + (1 : Int32))).bind fun x271 => sChk M 0 v1 (sCallI (f_X0_image v1 (if x271 = 0 then (0 : Int32) else (1 : Int32)) M) fun x273 M272 => (sIald M272 v0 (v3 + (1 : Int32))).bind fun x274 => sChk M272 3 v2 (sCallI (f_X3_image v2 (if x274 = 0 then (0 : Int32) else (1 : Int32)) M272) fun x276 M275 => if x273 = x276 then (f_L_law_L18 g v0 v1 v2 n (v3 + (6 : Int32)) M275) else (some (.inl (some (.int (0 : Int32))), M275))))) else if (x2 &&& (63 : Int32)) = 38 then ((sIald M v0 (v3 + (1 : Int32))).bind fun x277 => sChk M 0 v1 (sCallI (f_X0_look v1 x277 M) fun x279 M278 => (sIald M278 v0 (v3 + (1 : Int32))).bind fun x280 => sChk M278 3 v2 (sCallI (f_X3_look v2 x280 M278) fun x282 M281 => if x279 = x282 then (f_L_law_L18 g v0 v1 v2 n (v3 + (6 : Int32)) M281) else (some (.inl (some (.int (0 : Int32))), M281))))) else (f_L_law_L18 g v0 v1 v2 n (v3 + (6 : Int32)) M))
def f_L_law (g : Nat → Nat) (v0 : Nat) (M : sMem) : Option (sRes × sMem) := sNewO M 0 [.null, .int 0, .null, .null, .null, .null, .null, .null, .null, .null, .int 0, .int 0, .int 0, .int 0, .int 0, .int 0, .null, .null, .null, .null, .null, .int 0, .null, .null, .null, .null, .null, .null, .int 0, .null, .null, .null, .null, .null, .null, .null, .null, .null, .int 0, .null, .null, .null, .null, .null, .null, .null, .null] 47 fun r1 M2 => sCallV (f_X0_init g r1 M2) fun M3 => sNewO M3 3 [.null, .null, .null, .null, .int 0, .int 0, .null, .null, .null, .null, .null, .null, .int 0, .int 0, .int 0, .int 0, .int 0, .int 0, .int 0, .int 0, .int 0, .int 0, .int 0, .int 0, .int 0, .int 0, .int 0, .int 0, .null, .null, .null, .null, .null] 33 fun r5 M6 => sCallV (f_X3_init r5 M6) fun M7 => f_L_law_L18 g v0 r1 r5 sFuel (0 : Int32) M7
theorem w_L_law_L18 (l : Launch) (G : sG) (d : Nat) (hd : 608 ≤ d) (v0 : Nat) (v1 : Nat) (v2 : Nat) : ∀ (n : Nat) (v3 : Int32) (M : sMem), AW l G RL yL_law cL_law 4 (some .boolean) [] d 18 [some (.ref v0), some (.ref v1), some (.ref v2), some (.int v3)] [] M (f_L_law_L18 G.2.2.2 v0 v1 v2 n v3 M) := by
  intro n
  induction n with
  | zero => intros; exact AW.no
  | succ n ih =>
    intro v3 M
    unfold f_L_law_L18
    refine r_iload_n (pc := 18) dL_law_18 rfl ?_
    refine r_aload_n (pc := 19) dL_law_19 rfl ?_
    refine r_alen (pc := 20) dL_law_20 fun x1 => ?_
    refine r_bipush (pc := 21) (6 : Int32) dL_law_21 (by decide) ?_
    refine r_isub (pc := 23) dL_law_23 ?_
    refine r_icmp_gt (pc := 24) 1369 dL_law_24 rfl ?_ ?_
    · refine r_iconst (pc := 1369) (1 : Int32) dL_law_1369 (by decide) ?_
      exact r_nret rfl rfl dL_law_1370
    · refine r_aload_n (pc := 27) dL_law_27 rfl ?_
      refine r_iload_n (pc := 28) dL_law_28 rfl ?_
      refine r_iald (pc := 29) dL_law_29 fun x2 => ?_
      refine r_bipush (pc := 30) (63 : Int32) dL_law_30 (by decide) ?_
      refine r_iand (pc := 32) dL_law_32 ?_
      by_cases h0_33 : (x2 &&& (63 : Int32)) = 0
      · rw [if_pos h0_33]
        refine r_tableIn (pc := 33) 204 dL_law_33 (by rw [h0_33]; decide) (by rw [h0_33]; decide) (by rw [h0_33] <;> rfl) rfl ?_
        refine r_aload_n (pc := 204) dL_law_204 rfl ?_
        refine r_aload_n (pc := 205) dL_law_205 rfl ?_
        refine r_iload_n (pc := 206) dL_law_206 rfl ?_
        refine r_iconst (pc := 207) (1 : Int32) dL_law_207 (by decide) ?_
        refine r_iadd (pc := 208) dL_law_208 ?_
        refine r_iald (pc := 209) dL_law_209 fun x3 => ?_
        refine r_callV (pc := 210) [(.int x3)] sC0 (lw_V q936 q937 q938 q155 q939) cyV_X0_state (w_X0_state l G 1 (Nat.le_refl _) v1 x3 M) (Nat.le_trans (Nat.le_of_ble_eq_true rfl) hd) (Nat.le_of_ble_eq_true rfl) rfl rfl (Nat.le_of_ble_eq_true rfl) rfl dL_law_210 (sKI fun x5 M4 => ?_)
        refine r_aload_n (pc := 213) dL_law_213 rfl ?_
        refine r_aload_n (pc := 214) dL_law_214 rfl ?_
        refine r_iload_n (pc := 215) dL_law_215 rfl ?_
        refine r_iconst (pc := 216) (1 : Int32) dL_law_216 (by decide) ?_
        refine r_iadd (pc := 217) dL_law_217 ?_
        refine r_iald (pc := 218) dL_law_218 fun x6 => ?_
        refine r_callV (pc := 219) [(.int x6)] sC3 (lw_V q1504 q1505 q1506 q158 q1507) cyV_X3_state (w_X3_state l G 2 (Nat.le_refl _) v2 x6 M4) (Nat.le_trans (Nat.le_of_ble_eq_true rfl) hd) (Nat.le_of_ble_eq_true rfl) rfl rfl (Nat.le_of_ble_eq_true rfl) rfl dL_law_219 (sKI fun x8 M7 => ?_)
        refine r_icmp_eq (pc := 222) 1363 dL_law_222 rfl ?_ ?_
        · refine r_iinc (pc := 1363) (v3 + (6 : Int32)) [some (.ref v0), some (.ref v1), some (.ref v2), some (.int (v3 + (6 : Int32)))] dL_law_1363 rfl rfl (Nat.le_of_ble_eq_true rfl) rfl ?_
          refine r_goto (pc := 1366) 18 dL_law_1366 rfl ?_
          exact ih (v3 + (6 : Int32)) M7
        · refine r_iconst (pc := 225) (0 : Int32) dL_law_225 (by decide) ?_
          exact r_nret rfl rfl dL_law_226
      rw [if_neg h0_33]
      by_cases h1_33 : (x2 &&& (63 : Int32)) = 1
      · rw [if_pos h1_33]
        refine r_tableIn (pc := 33) 227 dL_law_33 (by rw [h1_33]; decide) (by rw [h1_33]; decide) (by rw [h1_33] <;> rfl) rfl ?_
        refine r_aload_n (pc := 227) dL_law_227 rfl ?_
        refine r_aload_n (pc := 228) dL_law_228 rfl ?_
        refine r_iload_n (pc := 229) dL_law_229 rfl ?_
        refine r_iconst (pc := 230) (1 : Int32) dL_law_230 (by decide) ?_
        refine r_iadd (pc := 231) dL_law_231 ?_
        refine r_iald (pc := 232) dL_law_232 fun x9 => ?_
        refine r_aload_n (pc := 233) dL_law_233 rfl ?_
        refine r_iload_n (pc := 234) dL_law_234 rfl ?_
        refine r_iconst (pc := 235) (2 : Int32) dL_law_235 (by decide) ?_
        refine r_iadd (pc := 236) dL_law_236 ?_
        refine r_iald (pc := 237) dL_law_237 fun x10 => ?_
        refine r_callV (pc := 238) [(.int x9), (.int x10)] sC0 (lw_V q940 q941 q942 q155 q943) cyV_X0_worm (w_X0_worm l G 2 (Nat.le_refl _) v1 x9 x10 M) (Nat.le_trans (Nat.le_of_ble_eq_true rfl) hd) (Nat.le_of_ble_eq_true rfl) rfl rfl (Nat.le_of_ble_eq_true rfl) rfl dL_law_238 (sKI fun x12 M11 => ?_)
        refine r_aload_n (pc := 241) dL_law_241 rfl ?_
        refine r_aload_n (pc := 242) dL_law_242 rfl ?_
        refine r_iload_n (pc := 243) dL_law_243 rfl ?_
        refine r_iconst (pc := 244) (1 : Int32) dL_law_244 (by decide) ?_
        refine r_iadd (pc := 245) dL_law_245 ?_
        refine r_iald (pc := 246) dL_law_246 fun x13 => ?_
        refine r_aload_n (pc := 247) dL_law_247 rfl ?_
        refine r_iload_n (pc := 248) dL_law_248 rfl ?_
        refine r_iconst (pc := 249) (2 : Int32) dL_law_249 (by decide) ?_
        refine r_iadd (pc := 250) dL_law_250 ?_
        refine r_iald (pc := 251) dL_law_251 fun x14 => ?_
        refine r_callV (pc := 252) [(.int x13), (.int x14)] sC3 (lw_V q1512 q1513 q1514 q158 q1515) cyV_X3_worm (w_X3_worm l G 2 (Nat.le_refl _) v2 x13 x14 M11) (Nat.le_trans (Nat.le_of_ble_eq_true rfl) hd) (Nat.le_of_ble_eq_true rfl) rfl rfl (Nat.le_of_ble_eq_true rfl) rfl dL_law_252 (sKI fun x16 M15 => ?_)
        refine r_icmp_eq (pc := 255) 1363 dL_law_255 rfl ?_ ?_
        · refine r_iinc (pc := 1363) (v3 + (6 : Int32)) [some (.ref v0), some (.ref v1), some (.ref v2), some (.int (v3 + (6 : Int32)))] dL_law_1363 rfl rfl (Nat.le_of_ble_eq_true rfl) rfl ?_
          refine r_goto (pc := 1366) 18 dL_law_1366 rfl ?_
          exact ih (v3 + (6 : Int32)) M15
        · refine r_iconst (pc := 258) (0 : Int32) dL_law_258 (by decide) ?_
          exact r_nret rfl rfl dL_law_259
      rw [if_neg h1_33]
      by_cases h2_33 : (x2 &&& (63 : Int32)) = 2
      · rw [if_pos h2_33]
        refine r_tableIn (pc := 33) 260 dL_law_33 (by rw [h2_33]; decide) (by rw [h2_33]; decide) (by rw [h2_33] <;> rfl) rfl ?_
        refine r_aload_n (pc := 260) dL_law_260 rfl ?_
        refine r_aload_n (pc := 261) dL_law_261 rfl ?_
        refine r_iload_n (pc := 262) dL_law_262 rfl ?_
        refine r_iconst (pc := 263) (1 : Int32) dL_law_263 (by decide) ?_
        refine r_iadd (pc := 264) dL_law_264 ?_
        refine r_iald (pc := 265) dL_law_265 fun x17 => ?_
        refine r_aload_n (pc := 266) dL_law_266 rfl ?_
        refine r_iload_n (pc := 267) dL_law_267 rfl ?_
        refine r_iconst (pc := 268) (2 : Int32) dL_law_268 (by decide) ?_
        refine r_iadd (pc := 269) dL_law_269 ?_
        refine r_iald (pc := 270) dL_law_270 fun x18 => ?_
        refine r_aload_n (pc := 271) dL_law_271 rfl ?_
        refine r_iload_n (pc := 272) dL_law_272 rfl ?_
        refine r_iconst (pc := 273) (3 : Int32) dL_law_273 (by decide) ?_
        refine r_iadd (pc := 274) dL_law_274 ?_
        refine r_iald (pc := 275) dL_law_275 fun x19 => ?_
        refine r_callV (pc := 276) [(.int x17), (.int x18), (.int x19)] sC0 (lw_V q944 q945 q946 q155 q947) cyV_X0_set (w_X0_set l G 3 (Nat.le_refl _) v1 x17 x18 x19 M) (Nat.le_trans (Nat.le_of_ble_eq_true rfl) hd) (Nat.le_of_ble_eq_true rfl) rfl rfl (Nat.le_of_ble_eq_true rfl) rfl dL_law_276 (sKI fun x21 M20 => ?_)
        refine r_aload_n (pc := 279) dL_law_279 rfl ?_
        refine r_aload_n (pc := 280) dL_law_280 rfl ?_
        refine r_iload_n (pc := 281) dL_law_281 rfl ?_
        refine r_iconst (pc := 282) (1 : Int32) dL_law_282 (by decide) ?_
        refine r_iadd (pc := 283) dL_law_283 ?_
        refine r_iald (pc := 284) dL_law_284 fun x22 => ?_
        refine r_aload_n (pc := 285) dL_law_285 rfl ?_
        refine r_iload_n (pc := 286) dL_law_286 rfl ?_
        refine r_iconst (pc := 287) (2 : Int32) dL_law_287 (by decide) ?_
        refine r_iadd (pc := 288) dL_law_288 ?_
        refine r_iald (pc := 289) dL_law_289 fun x23 => ?_
        refine r_aload_n (pc := 290) dL_law_290 rfl ?_
        refine r_iload_n (pc := 291) dL_law_291 rfl ?_
        refine r_iconst (pc := 292) (3 : Int32) dL_law_292 (by decide) ?_
        refine r_iadd (pc := 293) dL_law_293 ?_
        refine r_iald (pc := 294) dL_law_294 fun x24 => ?_
        refine r_callV (pc := 295) [(.int x22), (.int x23), (.int x24)] sC3 (lw_V q1519 q1520 q1521 q158 q1522) cyV_X3_set (w_X3_set l G 3 (Nat.le_refl _) v2 x22 x23 x24 M20) (Nat.le_trans (Nat.le_of_ble_eq_true rfl) hd) (Nat.le_of_ble_eq_true rfl) rfl rfl (Nat.le_of_ble_eq_true rfl) rfl dL_law_295 (sKI fun x26 M25 => ?_)
        refine r_icmp_eq (pc := 298) 1363 dL_law_298 rfl ?_ ?_
        · refine r_iinc (pc := 1363) (v3 + (6 : Int32)) [some (.ref v0), some (.ref v1), some (.ref v2), some (.int (v3 + (6 : Int32)))] dL_law_1363 rfl rfl (Nat.le_of_ble_eq_true rfl) rfl ?_
          refine r_goto (pc := 1366) 18 dL_law_1366 rfl ?_
          exact ih (v3 + (6 : Int32)) M25
        · refine r_iconst (pc := 301) (0 : Int32) dL_law_301 (by decide) ?_
          exact r_nret rfl rfl dL_law_302
      rw [if_neg h2_33]
      by_cases h3_33 : (x2 &&& (63 : Int32)) = 3
      · rw [if_pos h3_33]
        refine r_tableIn (pc := 33) 303 dL_law_33 (by rw [h3_33]; decide) (by rw [h3_33]; decide) (by rw [h3_33] <;> rfl) rfl ?_
        refine r_aload_n (pc := 303) dL_law_303 rfl ?_
        refine r_aload_n (pc := 304) dL_law_304 rfl ?_
        refine r_iload_n (pc := 305) dL_law_305 rfl ?_
        refine r_iconst (pc := 306) (1 : Int32) dL_law_306 (by decide) ?_
        refine r_iadd (pc := 307) dL_law_307 ?_
        refine r_iald (pc := 308) dL_law_308 fun x27 => ?_
        refine r_aload_n (pc := 309) dL_law_309 rfl ?_
        refine r_iload_n (pc := 310) dL_law_310 rfl ?_
        refine r_iconst (pc := 311) (2 : Int32) dL_law_311 (by decide) ?_
        refine r_iadd (pc := 312) dL_law_312 ?_
        refine r_iald (pc := 313) dL_law_313 fun x28 => ?_
        refine r_aload_n (pc := 314) dL_law_314 rfl ?_
        refine r_iload_n (pc := 315) dL_law_315 rfl ?_
        refine r_iconst (pc := 316) (3 : Int32) dL_law_316 (by decide) ?_
        refine r_iadd (pc := 317) dL_law_317 ?_
        refine r_iald (pc := 318) dL_law_318 fun x29 => ?_
        refine r_callV (pc := 319) [(.int x27), (.int x28), (.int x29)] sC0 (lw_V q952 q953 q954 q155 q955) cyV_X0_feedOne (w_X0_feedOne l G 606 (Nat.le_refl _) v1 x27 x28 x29 M) (Nat.le_trans (Nat.le_of_ble_eq_true rfl) hd) (Nat.le_of_ble_eq_true rfl) rfl rfl (Nat.le_of_ble_eq_true rfl) rfl dL_law_319 (sKI fun x31 M30 => ?_)
        refine r_aload_n (pc := 322) dL_law_322 rfl ?_
        refine r_aload_n (pc := 323) dL_law_323 rfl ?_
        refine r_iload_n (pc := 324) dL_law_324 rfl ?_
        refine r_iconst (pc := 325) (1 : Int32) dL_law_325 (by decide) ?_
        refine r_iadd (pc := 326) dL_law_326 ?_
        refine r_iald (pc := 327) dL_law_327 fun x32 => ?_
        refine r_aload_n (pc := 328) dL_law_328 rfl ?_
        refine r_iload_n (pc := 329) dL_law_329 rfl ?_
        refine r_iconst (pc := 330) (2 : Int32) dL_law_330 (by decide) ?_
        refine r_iadd (pc := 331) dL_law_331 ?_
        refine r_iald (pc := 332) dL_law_332 fun x33 => ?_
        refine r_aload_n (pc := 333) dL_law_333 rfl ?_
        refine r_iload_n (pc := 334) dL_law_334 rfl ?_
        refine r_iconst (pc := 335) (3 : Int32) dL_law_335 (by decide) ?_
        refine r_iadd (pc := 336) dL_law_336 ?_
        refine r_iald (pc := 337) dL_law_337 fun x34 => ?_
        refine r_callV (pc := 338) [(.int x32), (.int x33), (.int x34)] sC3 (lw_V q1703 q1704 q1705 q158 q1706) cyV_X3_feedOne (w_X3_feedOne l G 8 (Nat.le_refl _) v2 x32 x33 x34 M30) (Nat.le_trans (Nat.le_of_ble_eq_true rfl) hd) (Nat.le_of_ble_eq_true rfl) rfl rfl (Nat.le_of_ble_eq_true rfl) rfl dL_law_338 (sKI fun x36 M35 => ?_)
        refine r_icmp_eq (pc := 341) 1363 dL_law_341 rfl ?_ ?_
        · refine r_iinc (pc := 1363) (v3 + (6 : Int32)) [some (.ref v0), some (.ref v1), some (.ref v2), some (.int (v3 + (6 : Int32)))] dL_law_1363 rfl rfl (Nat.le_of_ble_eq_true rfl) rfl ?_
          refine r_goto (pc := 1366) 18 dL_law_1366 rfl ?_
          exact ih (v3 + (6 : Int32)) M35
        · refine r_iconst (pc := 344) (0 : Int32) dL_law_344 (by decide) ?_
          exact r_nret rfl rfl dL_law_345
      rw [if_neg h3_33]
      by_cases h4_33 : (x2 &&& (63 : Int32)) = 4
      · rw [if_pos h4_33]
        refine r_tableIn (pc := 33) 346 dL_law_33 (by rw [h4_33]; decide) (by rw [h4_33]; decide) (by rw [h4_33] <;> rfl) rfl ?_
        refine r_aload_n (pc := 346) dL_law_346 rfl ?_
        refine r_aload_n (pc := 347) dL_law_347 rfl ?_
        refine r_iload_n (pc := 348) dL_law_348 rfl ?_
        refine r_iconst (pc := 349) (1 : Int32) dL_law_349 (by decide) ?_
        refine r_iadd (pc := 350) dL_law_350 ?_
        refine r_iald (pc := 351) dL_law_351 fun x37 => ?_
        refine r_aload_n (pc := 352) dL_law_352 rfl ?_
        refine r_iload_n (pc := 353) dL_law_353 rfl ?_
        refine r_iconst (pc := 354) (2 : Int32) dL_law_354 (by decide) ?_
        refine r_iadd (pc := 355) dL_law_355 ?_
        refine r_iald (pc := 356) dL_law_356 fun x38 => ?_
        refine AW.tern (pc := 357) (c := x38 = 0) (0 : Int32) (1 : Int32) 365 [some (.ref v0), some (.ref v1), some (.ref v2), some (.int v3)] [(.int x37), (.ref v1)] (fun o1 o2 k1 k2 => ?_) ?_
        · refine r_if_eq (pc := 357) 364 dL_law_357 rfl ?_ ?_
          · refine r_iconst (pc := 364) (0 : Int32) dL_law_364 (by decide) ?_
            exact k1
          · refine r_iconst (pc := 360) (1 : Int32) dL_law_360 (by decide) ?_
            refine r_goto (pc := 361) 365 dL_law_361 rfl ?_
            exact k2
        refine r_callV (pc := 365) [(.int x37), (.int (if x38 = 0 then (0 : Int32) else (1 : Int32)))] sC0 (lw_V q1052 q1053 q1054 q155 q1055) cyV_X0_cocoon (w_X0_cocoon l G 4 (Nat.le_refl _) v1 x37 (if x38 = 0 then (0 : Int32) else (1 : Int32)) M) (Nat.le_trans (Nat.le_of_ble_eq_true rfl) hd) (Nat.le_of_ble_eq_true rfl) rfl rfl (Nat.le_of_ble_eq_true rfl) rfl dL_law_365 (sKI fun x40 M39 => ?_)
        refine r_aload_n (pc := 368) dL_law_368 rfl ?_
        refine r_aload_n (pc := 369) dL_law_369 rfl ?_
        refine r_iload_n (pc := 370) dL_law_370 rfl ?_
        refine r_iconst (pc := 371) (1 : Int32) dL_law_371 (by decide) ?_
        refine r_iadd (pc := 372) dL_law_372 ?_
        refine r_iald (pc := 373) dL_law_373 fun x41 => ?_
        refine r_aload_n (pc := 374) dL_law_374 rfl ?_
        refine r_iload_n (pc := 375) dL_law_375 rfl ?_
        refine r_iconst (pc := 376) (2 : Int32) dL_law_376 (by decide) ?_
        refine r_iadd (pc := 377) dL_law_377 ?_
        refine r_iald (pc := 378) dL_law_378 fun x42 => ?_
        refine AW.tern (pc := 379) (c := x42 = 0) (0 : Int32) (1 : Int32) 387 [some (.ref v0), some (.ref v1), some (.ref v2), some (.int v3)] [(.int x41), (.ref v2), (.int x40)] (fun o1 o2 k1 k2 => ?_) ?_
        · refine r_if_eq (pc := 379) 386 dL_law_379 rfl ?_ ?_
          · refine r_iconst (pc := 386) (0 : Int32) dL_law_386 (by decide) ?_
            exact k1
          · refine r_iconst (pc := 382) (1 : Int32) dL_law_382 (by decide) ?_
            refine r_goto (pc := 383) 387 dL_law_383 rfl ?_
            exact k2
        refine r_callV (pc := 387) [(.int x41), (.int (if x42 = 0 then (0 : Int32) else (1 : Int32)))] sC3 (lw_V q1791 q1792 q1793 q158 q1794) cyV_X3_cocoon (w_X3_cocoon l G 3 (Nat.le_refl _) v2 x41 (if x42 = 0 then (0 : Int32) else (1 : Int32)) M39) (Nat.le_trans (Nat.le_of_ble_eq_true rfl) hd) (Nat.le_of_ble_eq_true rfl) rfl rfl (Nat.le_of_ble_eq_true rfl) rfl dL_law_387 (sKI fun x44 M43 => ?_)
        refine r_icmp_eq (pc := 390) 1363 dL_law_390 rfl ?_ ?_
        · refine r_iinc (pc := 1363) (v3 + (6 : Int32)) [some (.ref v0), some (.ref v1), some (.ref v2), some (.int (v3 + (6 : Int32)))] dL_law_1363 rfl rfl (Nat.le_of_ble_eq_true rfl) rfl ?_
          refine r_goto (pc := 1366) 18 dL_law_1366 rfl ?_
          exact ih (v3 + (6 : Int32)) M43
        · refine r_iconst (pc := 393) (0 : Int32) dL_law_393 (by decide) ?_
          exact r_nret rfl rfl dL_law_394
      rw [if_neg h4_33]
      by_cases h5_33 : (x2 &&& (63 : Int32)) = 5
      · rw [if_pos h5_33]
        refine r_tableIn (pc := 33) 395 dL_law_33 (by rw [h5_33]; decide) (by rw [h5_33]; decide) (by rw [h5_33] <;> rfl) rfl ?_
        refine r_aload_n (pc := 395) dL_law_395 rfl ?_
        refine r_aload_n (pc := 396) dL_law_396 rfl ?_
        refine r_iload_n (pc := 397) dL_law_397 rfl ?_
        refine r_iconst (pc := 398) (1 : Int32) dL_law_398 (by decide) ?_
        refine r_iadd (pc := 399) dL_law_399 ?_
        refine r_iald (pc := 400) dL_law_400 fun x45 => ?_
        refine r_callV (pc := 401) [(.int x45)] sC0 (lw_V q1069 q1070 q1071 q155 q1072) cyV_X0_days (w_X0_days l G 607 (Nat.le_refl _) v1 x45 M) (Nat.le_trans (Nat.le_of_ble_eq_true rfl) hd) (Nat.le_of_ble_eq_true rfl) rfl rfl (Nat.le_of_ble_eq_true rfl) rfl dL_law_401 (sKI fun x47 M46 => ?_)
        refine r_aload_n (pc := 404) dL_law_404 rfl ?_
        refine r_aload_n (pc := 405) dL_law_405 rfl ?_
        refine r_iload_n (pc := 406) dL_law_406 rfl ?_
        refine r_iconst (pc := 407) (1 : Int32) dL_law_407 (by decide) ?_
        refine r_iadd (pc := 408) dL_law_408 ?_
        refine r_iald (pc := 409) dL_law_409 fun x48 => ?_
        refine r_callV (pc := 410) [(.int x48)] sC3 (lw_V q1799 q1800 q1801 q158 q1802) cyV_X3_days (w_X3_days l G 10 (Nat.le_refl _) v2 x48 M46) (Nat.le_trans (Nat.le_of_ble_eq_true rfl) hd) (Nat.le_of_ble_eq_true rfl) rfl rfl (Nat.le_of_ble_eq_true rfl) rfl dL_law_410 (sKI fun x50 M49 => ?_)
        refine r_icmp_eq (pc := 413) 1363 dL_law_413 rfl ?_ ?_
        · refine r_iinc (pc := 1363) (v3 + (6 : Int32)) [some (.ref v0), some (.ref v1), some (.ref v2), some (.int (v3 + (6 : Int32)))] dL_law_1363 rfl rfl (Nat.le_of_ble_eq_true rfl) rfl ?_
          refine r_goto (pc := 1366) 18 dL_law_1366 rfl ?_
          exact ih (v3 + (6 : Int32)) M49
        · refine r_iconst (pc := 416) (0 : Int32) dL_law_416 (by decide) ?_
          exact r_nret rfl rfl dL_law_417
      rw [if_neg h5_33]
      by_cases h6_33 : (x2 &&& (63 : Int32)) = 6
      · rw [if_pos h6_33]
        refine r_tableIn (pc := 33) 418 dL_law_33 (by rw [h6_33]; decide) (by rw [h6_33]; decide) (by rw [h6_33] <;> rfl) rfl ?_
        refine r_aload_n (pc := 418) dL_law_418 rfl ?_
        refine r_aload_n (pc := 419) dL_law_419 rfl ?_
        refine r_iload_n (pc := 420) dL_law_420 rfl ?_
        refine r_iconst (pc := 421) (1 : Int32) dL_law_421 (by decide) ?_
        refine r_iadd (pc := 422) dL_law_422 ?_
        refine r_iald (pc := 423) dL_law_423 fun x51 => ?_
        refine r_aload_n (pc := 424) dL_law_424 rfl ?_
        refine r_iload_n (pc := 425) dL_law_425 rfl ?_
        refine r_iconst (pc := 426) (2 : Int32) dL_law_426 (by decide) ?_
        refine r_iadd (pc := 427) dL_law_427 ?_
        refine r_iald (pc := 428) dL_law_428 fun x52 => ?_
        refine r_aload_n (pc := 429) dL_law_429 rfl ?_
        refine r_iload_n (pc := 430) dL_law_430 rfl ?_
        refine r_iconst (pc := 431) (3 : Int32) dL_law_431 (by decide) ?_
        refine r_iadd (pc := 432) dL_law_432 ?_
        refine r_iald (pc := 433) dL_law_433 fun x53 => ?_
        refine r_aload_n (pc := 434) dL_law_434 rfl ?_
        refine r_iload_n (pc := 435) dL_law_435 rfl ?_
        refine r_iconst (pc := 436) (4 : Int32) dL_law_436 (by decide) ?_
        refine r_iadd (pc := 437) dL_law_437 ?_
        refine r_iald (pc := 438) dL_law_438 fun x54 => ?_
        refine r_aload_n (pc := 439) dL_law_439 rfl ?_
        refine r_iload_n (pc := 440) dL_law_440 rfl ?_
        refine r_iconst (pc := 441) (5 : Int32) dL_law_441 (by decide) ?_
        refine r_iadd (pc := 442) dL_law_442 ?_
        refine r_iald (pc := 443) dL_law_443 fun x55 => ?_
        refine r_callV (pc := 444) [(.int x51), (.int x52), (.int x53), (.int x54), (.int x55)] sC0 (lw_V q494 q495 q496 q155 q497) cyV_X0_feed (w_X0_feed l G 2 (Nat.le_refl _) v1 x51 x52 x53 x54 x55 M) (Nat.le_trans (Nat.le_of_ble_eq_true rfl) hd) (Nat.le_of_ble_eq_true rfl) rfl rfl (Nat.le_of_ble_eq_true rfl) rfl dL_law_444 (sKI fun x57 M56 => ?_)
        refine r_aload_n (pc := 447) dL_law_447 rfl ?_
        refine r_aload_n (pc := 448) dL_law_448 rfl ?_
        refine r_iload_n (pc := 449) dL_law_449 rfl ?_
        refine r_iconst (pc := 450) (1 : Int32) dL_law_450 (by decide) ?_
        refine r_iadd (pc := 451) dL_law_451 ?_
        refine r_iald (pc := 452) dL_law_452 fun x58 => ?_
        refine r_aload_n (pc := 453) dL_law_453 rfl ?_
        refine r_iload_n (pc := 454) dL_law_454 rfl ?_
        refine r_iconst (pc := 455) (2 : Int32) dL_law_455 (by decide) ?_
        refine r_iadd (pc := 456) dL_law_456 ?_
        refine r_iald (pc := 457) dL_law_457 fun x59 => ?_
        refine r_aload_n (pc := 458) dL_law_458 rfl ?_
        refine r_iload_n (pc := 459) dL_law_459 rfl ?_
        refine r_iconst (pc := 460) (3 : Int32) dL_law_460 (by decide) ?_
        refine r_iadd (pc := 461) dL_law_461 ?_
        refine r_iald (pc := 462) dL_law_462 fun x60 => ?_
        refine r_aload_n (pc := 463) dL_law_463 rfl ?_
        refine r_iload_n (pc := 464) dL_law_464 rfl ?_
        refine r_iconst (pc := 465) (4 : Int32) dL_law_465 (by decide) ?_
        refine r_iadd (pc := 466) dL_law_466 ?_
        refine r_iald (pc := 467) dL_law_467 fun x61 => ?_
        refine r_aload_n (pc := 468) dL_law_468 rfl ?_
        refine r_iload_n (pc := 469) dL_law_469 rfl ?_
        refine r_iconst (pc := 470) (5 : Int32) dL_law_470 (by decide) ?_
        refine r_iadd (pc := 471) dL_law_471 ?_
        refine r_iald (pc := 472) dL_law_472 fun x62 => ?_
        refine r_callV (pc := 473) [(.int x58), (.int x59), (.int x60), (.int x61), (.int x62)] sC3 (lw_V q1527 q1528 q1529 q158 q1530) cyV_X3_feed (w_X3_feed l G 1 (Nat.le_refl _) v2 x58 x59 x60 x61 x62 M56) (Nat.le_trans (Nat.le_of_ble_eq_true rfl) hd) (Nat.le_of_ble_eq_true rfl) rfl rfl (Nat.le_of_ble_eq_true rfl) rfl dL_law_473 (sKI fun x64 M63 => ?_)
        refine r_icmp_eq (pc := 476) 1363 dL_law_476 rfl ?_ ?_
        · refine r_iinc (pc := 1363) (v3 + (6 : Int32)) [some (.ref v0), some (.ref v1), some (.ref v2), some (.int (v3 + (6 : Int32)))] dL_law_1363 rfl rfl (Nat.le_of_ble_eq_true rfl) rfl ?_
          refine r_goto (pc := 1366) 18 dL_law_1366 rfl ?_
          exact ih (v3 + (6 : Int32)) M63
        · refine r_iconst (pc := 479) (0 : Int32) dL_law_479 (by decide) ?_
          exact r_nret rfl rfl dL_law_480
      rw [if_neg h6_33]
      by_cases h7_33 : (x2 &&& (63 : Int32)) = 7
      · rw [if_pos h7_33]
        refine r_tableIn (pc := 33) 481 dL_law_33 (by rw [h7_33]; decide) (by rw [h7_33]; decide) (by rw [h7_33] <;> rfl) rfl ?_
        refine r_aload_n (pc := 481) dL_law_481 rfl ?_
        refine r_aload_n (pc := 482) dL_law_482 rfl ?_
        refine r_iload_n (pc := 483) dL_law_483 rfl ?_
        refine r_iconst (pc := 484) (1 : Int32) dL_law_484 (by decide) ?_
        refine r_iadd (pc := 485) dL_law_485 ?_
        refine r_iald (pc := 486) dL_law_486 fun x65 => ?_
        refine r_callV (pc := 487) [(.int x65)] sC0 (lw_V q502 q503 q504 q155 q505) cyV_X0_end (w_X0_end l G 2 (Nat.le_refl _) v1 x65 M) (Nat.le_trans (Nat.le_of_ble_eq_true rfl) hd) (Nat.le_of_ble_eq_true rfl) rfl rfl (Nat.le_of_ble_eq_true rfl) rfl dL_law_487 (sKI fun x67 M66 => ?_)
        refine r_aload_n (pc := 490) dL_law_490 rfl ?_
        refine r_aload_n (pc := 491) dL_law_491 rfl ?_
        refine r_iload_n (pc := 492) dL_law_492 rfl ?_
        refine r_iconst (pc := 493) (1 : Int32) dL_law_493 (by decide) ?_
        refine r_iadd (pc := 494) dL_law_494 ?_
        refine r_iald (pc := 495) dL_law_495 fun x68 => ?_
        refine r_callV (pc := 496) [(.int x68)] sC3 (lw_V q1531 q1532 q1533 q158 q1534) cyV_X3_end (w_X3_end l G 2 (Nat.le_refl _) v2 x68 M66) (Nat.le_trans (Nat.le_of_ble_eq_true rfl) hd) (Nat.le_of_ble_eq_true rfl) rfl rfl (Nat.le_of_ble_eq_true rfl) rfl dL_law_496 (sKI fun x70 M69 => ?_)
        refine r_icmp_eq (pc := 499) 1363 dL_law_499 rfl ?_ ?_
        · refine r_iinc (pc := 1363) (v3 + (6 : Int32)) [some (.ref v0), some (.ref v1), some (.ref v2), some (.int (v3 + (6 : Int32)))] dL_law_1363 rfl rfl (Nat.le_of_ble_eq_true rfl) rfl ?_
          refine r_goto (pc := 1366) 18 dL_law_1366 rfl ?_
          exact ih (v3 + (6 : Int32)) M69
        · refine r_iconst (pc := 502) (0 : Int32) dL_law_502 (by decide) ?_
          exact r_nret rfl rfl dL_law_503
      rw [if_neg h7_33]
      by_cases h8_33 : (x2 &&& (63 : Int32)) = 8
      · rw [if_pos h8_33]
        refine r_tableIn (pc := 33) 504 dL_law_33 (by rw [h8_33]; decide) (by rw [h8_33]; decide) (by rw [h8_33] <;> rfl) rfl ?_
        refine r_aload_n (pc := 504) dL_law_504 rfl ?_
        refine r_aload_n (pc := 505) dL_law_505 rfl ?_
        refine r_iload_n (pc := 506) dL_law_506 rfl ?_
        refine r_iconst (pc := 507) (1 : Int32) dL_law_507 (by decide) ?_
        refine r_iadd (pc := 508) dL_law_508 ?_
        refine r_iald (pc := 509) dL_law_509 fun x71 => ?_
        refine r_callVW (pc := 510) [(.int x71)] sC0 (lw_VW q509 q510 q511 q155 q512) cyV_X0_text (w_X0_text l G 74 (Nat.le_refl _) v1 x71 M) (Nat.le_trans (Nat.le_of_ble_eq_true rfl) hd) (Nat.le_of_ble_eq_true rfl) rfl rfl (Nat.le_of_ble_eq_true rfl) rfl dL_law_510 (sKI fun x73 M72 => ?_)
        refine r_aload_n (pc := 513) dL_law_513 rfl ?_
        refine r_aload_n (pc := 514) dL_law_514 rfl ?_
        refine r_iload_n (pc := 515) dL_law_515 rfl ?_
        refine r_iconst (pc := 516) (1 : Int32) dL_law_516 (by decide) ?_
        refine r_iadd (pc := 517) dL_law_517 ?_
        refine r_iald (pc := 518) dL_law_518 fun x74 => ?_
        refine r_callV (pc := 519) [(.int x74)] sC3 (lw_V q1535 q1536 q1537 q158 q1538) cyV_X3_text (w_X3_text l G 76 (Nat.le_refl _) v2 x74 M72) (Nat.le_trans (Nat.le_of_ble_eq_true rfl) hd) (Nat.le_of_ble_eq_true rfl) rfl rfl (Nat.le_of_ble_eq_true rfl) rfl dL_law_519 (sKI fun x76 M75 => ?_)
        refine r_icmp_eq (pc := 522) 1363 dL_law_522 rfl ?_ ?_
        · refine r_iinc (pc := 1363) (v3 + (6 : Int32)) [some (.ref v0), some (.ref v1), some (.ref v2), some (.int (v3 + (6 : Int32)))] dL_law_1363 rfl rfl (Nat.le_of_ble_eq_true rfl) rfl ?_
          refine r_goto (pc := 1366) 18 dL_law_1366 rfl ?_
          exact ih (v3 + (6 : Int32)) M75
        · refine r_iconst (pc := 525) (0 : Int32) dL_law_525 (by decide) ?_
          exact r_nret rfl rfl dL_law_526
      rw [if_neg h8_33]
      by_cases h9_33 : (x2 &&& (63 : Int32)) = 9
      · rw [if_pos h9_33]
        refine r_tableIn (pc := 33) 527 dL_law_33 (by rw [h9_33]; decide) (by rw [h9_33]; decide) (by rw [h9_33] <;> rfl) rfl ?_
        refine r_aload_n (pc := 527) dL_law_527 rfl ?_
        refine r_aload_n (pc := 528) dL_law_528 rfl ?_
        refine r_iload_n (pc := 529) dL_law_529 rfl ?_
        refine r_iconst (pc := 530) (1 : Int32) dL_law_530 (by decide) ?_
        refine r_iadd (pc := 531) dL_law_531 ?_
        refine r_iald (pc := 532) dL_law_532 fun x77 => ?_
        refine r_callV (pc := 533) [(.int x77)] sC0 (lw_V q920 q921 q922 q155 q923) cyV_X0_fault (w_X0_fault l G 1 (Nat.le_refl _) v1 x77 M) (Nat.le_trans (Nat.le_of_ble_eq_true rfl) hd) (Nat.le_of_ble_eq_true rfl) rfl rfl (Nat.le_of_ble_eq_true rfl) rfl dL_law_533 (sKI fun x79 M78 => ?_)
        refine r_aload_n (pc := 536) dL_law_536 rfl ?_
        refine r_aload_n (pc := 537) dL_law_537 rfl ?_
        refine r_iload_n (pc := 538) dL_law_538 rfl ?_
        refine r_iconst (pc := 539) (1 : Int32) dL_law_539 (by decide) ?_
        refine r_iadd (pc := 540) dL_law_540 ?_
        refine r_iald (pc := 541) dL_law_541 fun x80 => ?_
        refine r_callV (pc := 542) [(.int x80)] sC3 (lw_V q1695 q1696 q1697 q158 q1698) cyV_X3_fault (w_X3_fault l G 1 (Nat.le_refl _) v2 x80 M78) (Nat.le_trans (Nat.le_of_ble_eq_true rfl) hd) (Nat.le_of_ble_eq_true rfl) rfl rfl (Nat.le_of_ble_eq_true rfl) rfl dL_law_542 (sKI fun x82 M81 => ?_)
        refine r_icmp_eq (pc := 545) 1363 dL_law_545 rfl ?_ ?_
        · refine r_iinc (pc := 1363) (v3 + (6 : Int32)) [some (.ref v0), some (.ref v1), some (.ref v2), some (.int (v3 + (6 : Int32)))] dL_law_1363 rfl rfl (Nat.le_of_ble_eq_true rfl) rfl ?_
          refine r_goto (pc := 1366) 18 dL_law_1366 rfl ?_
          exact ih (v3 + (6 : Int32)) M81
        · refine r_iconst (pc := 548) (0 : Int32) dL_law_548 (by decide) ?_
          exact r_nret rfl rfl dL_law_549
      rw [if_neg h9_33]
      by_cases h10_33 : (x2 &&& (63 : Int32)) = 10
      · rw [if_pos h10_33]
        refine r_tableIn (pc := 33) 550 dL_law_33 (by rw [h10_33]; decide) (by rw [h10_33]; decide) (by rw [h10_33] <;> rfl) rfl ?_
        refine r_aload_n (pc := 550) dL_law_550 rfl ?_
        refine r_aload_n (pc := 551) dL_law_551 rfl ?_
        refine r_iload_n (pc := 552) dL_law_552 rfl ?_
        refine r_iconst (pc := 553) (1 : Int32) dL_law_553 (by decide) ?_
        refine r_iadd (pc := 554) dL_law_554 ?_
        refine r_iald (pc := 555) dL_law_555 fun x83 => ?_
        refine r_aload_n (pc := 556) dL_law_556 rfl ?_
        refine r_iload_n (pc := 557) dL_law_557 rfl ?_
        refine r_iconst (pc := 558) (2 : Int32) dL_law_558 (by decide) ?_
        refine r_iadd (pc := 559) dL_law_559 ?_
        refine r_iald (pc := 560) dL_law_560 fun x84 => ?_
        refine r_callV (pc := 561) [(.int x83), (.int x84)] sC0 (lw_V q1102 q1103 q1104 q155 q1105) cyV_X0_of (w_X0_of l G 604 (Nat.le_refl _) v1 x83 x84 M) (Nat.le_trans (Nat.le_of_ble_eq_true rfl) hd) (Nat.le_of_ble_eq_true rfl) rfl rfl (Nat.le_of_ble_eq_true rfl) rfl dL_law_561 (sKI fun x86 M85 => ?_)
        refine r_aload_n (pc := 564) dL_law_564 rfl ?_
        refine r_aload_n (pc := 565) dL_law_565 rfl ?_
        refine r_iload_n (pc := 566) dL_law_566 rfl ?_
        refine r_iconst (pc := 567) (1 : Int32) dL_law_567 (by decide) ?_
        refine r_iadd (pc := 568) dL_law_568 ?_
        refine r_iald (pc := 569) dL_law_569 fun x87 => ?_
        refine r_aload_n (pc := 570) dL_law_570 rfl ?_
        refine r_iload_n (pc := 571) dL_law_571 rfl ?_
        refine r_iconst (pc := 572) (2 : Int32) dL_law_572 (by decide) ?_
        refine r_iadd (pc := 573) dL_law_573 ?_
        refine r_iald (pc := 574) dL_law_574 fun x88 => ?_
        refine r_callV (pc := 575) [(.int x87), (.int x88)] sC3 (lw_V q1815 q1816 q1817 q158 q1818) cyV_X3_of (w_X3_of l G 6 (Nat.le_refl _) v2 x87 x88 M85) (Nat.le_trans (Nat.le_of_ble_eq_true rfl) hd) (Nat.le_of_ble_eq_true rfl) rfl rfl (Nat.le_of_ble_eq_true rfl) rfl dL_law_575 (sKI fun x90 M89 => ?_)
        refine r_icmp_eq (pc := 578) 1363 dL_law_578 rfl ?_ ?_
        · refine r_iinc (pc := 1363) (v3 + (6 : Int32)) [some (.ref v0), some (.ref v1), some (.ref v2), some (.int (v3 + (6 : Int32)))] dL_law_1363 rfl rfl (Nat.le_of_ble_eq_true rfl) rfl ?_
          refine r_goto (pc := 1366) 18 dL_law_1366 rfl ?_
          exact ih (v3 + (6 : Int32)) M89
        · refine r_iconst (pc := 581) (0 : Int32) dL_law_581 (by decide) ?_
          exact r_nret rfl rfl dL_law_582
      rw [if_neg h10_33]
      by_cases h11_33 : (x2 &&& (63 : Int32)) = 11
      · rw [if_pos h11_33]
        refine r_tableIn (pc := 33) 583 dL_law_33 (by rw [h11_33]; decide) (by rw [h11_33]; decide) (by rw [h11_33] <;> rfl) rfl ?_
        refine r_aload_n (pc := 583) dL_law_583 rfl ?_
        refine r_aload_n (pc := 584) dL_law_584 rfl ?_
        refine r_iload_n (pc := 585) dL_law_585 rfl ?_
        refine r_iconst (pc := 586) (1 : Int32) dL_law_586 (by decide) ?_
        refine r_iadd (pc := 587) dL_law_587 ?_
        refine r_iald (pc := 588) dL_law_588 fun x91 => ?_
        refine r_aload_n (pc := 589) dL_law_589 rfl ?_
        refine r_iload_n (pc := 590) dL_law_590 rfl ?_
        refine r_iconst (pc := 591) (2 : Int32) dL_law_591 (by decide) ?_
        refine r_iadd (pc := 592) dL_law_592 ?_
        refine r_iald (pc := 593) dL_law_593 fun x92 => ?_
        refine r_callV (pc := 594) [(.int x91), (.int x92)] sC0 (lw_V q1114 q1115 q1116 q155 q1117) cyV_X0_fact_2 (w_X0_fact_2 l G 3 (Nat.le_refl _) v1 x91 x92 M) (Nat.le_trans (Nat.le_of_ble_eq_true rfl) hd) (Nat.le_of_ble_eq_true rfl) rfl rfl (Nat.le_of_ble_eq_true rfl) rfl dL_law_594 (sKI fun x94 M93 => ?_)
        refine r_aload_n (pc := 597) dL_law_597 rfl ?_
        refine r_aload_n (pc := 598) dL_law_598 rfl ?_
        refine r_iload_n (pc := 599) dL_law_599 rfl ?_
        refine r_iconst (pc := 600) (1 : Int32) dL_law_600 (by decide) ?_
        refine r_iadd (pc := 601) dL_law_601 ?_
        refine r_iald (pc := 602) dL_law_602 fun x95 => ?_
        refine r_aload_n (pc := 603) dL_law_603 rfl ?_
        refine r_iload_n (pc := 604) dL_law_604 rfl ?_
        refine r_iconst (pc := 605) (2 : Int32) dL_law_605 (by decide) ?_
        refine r_iadd (pc := 606) dL_law_606 ?_
        refine r_iald (pc := 607) dL_law_607 fun x96 => ?_
        refine r_callV (pc := 608) [(.int x95), (.int x96)] sC3 (lw_V q1823 q1824 q1825 q158 q1826) cyV_X3_fact (w_X3_fact l G 3 (Nat.le_refl _) v2 x95 x96 M93) (Nat.le_trans (Nat.le_of_ble_eq_true rfl) hd) (Nat.le_of_ble_eq_true rfl) rfl rfl (Nat.le_of_ble_eq_true rfl) rfl dL_law_608 (sKI fun x98 M97 => ?_)
        refine r_icmp_eq (pc := 611) 1363 dL_law_611 rfl ?_ ?_
        · refine r_iinc (pc := 1363) (v3 + (6 : Int32)) [some (.ref v0), some (.ref v1), some (.ref v2), some (.int (v3 + (6 : Int32)))] dL_law_1363 rfl rfl (Nat.le_of_ble_eq_true rfl) rfl ?_
          refine r_goto (pc := 1366) 18 dL_law_1366 rfl ?_
          exact ih (v3 + (6 : Int32)) M97
        · refine r_iconst (pc := 614) (0 : Int32) dL_law_614 (by decide) ?_
          exact r_nret rfl rfl dL_law_615
      rw [if_neg h11_33]
      by_cases h12_33 : (x2 &&& (63 : Int32)) = 12
      · rw [if_pos h12_33]
        refine r_tableIn (pc := 33) 616 dL_law_33 (by rw [h12_33]; decide) (by rw [h12_33]; decide) (by rw [h12_33] <;> rfl) rfl ?_
        refine r_aload_n (pc := 616) dL_law_616 rfl ?_
        refine r_aload_n (pc := 617) dL_law_617 rfl ?_
        refine r_iload_n (pc := 618) dL_law_618 rfl ?_
        refine r_iconst (pc := 619) (1 : Int32) dL_law_619 (by decide) ?_
        refine r_iadd (pc := 620) dL_law_620 ?_
        refine r_iald (pc := 621) dL_law_621 fun x99 => ?_
        refine r_aload_n (pc := 622) dL_law_622 rfl ?_
        refine r_iload_n (pc := 623) dL_law_623 rfl ?_
        refine r_iconst (pc := 624) (2 : Int32) dL_law_624 (by decide) ?_
        refine r_iadd (pc := 625) dL_law_625 ?_
        refine r_iald (pc := 626) dL_law_626 fun x100 => ?_
        refine r_callV (pc := 627) [(.int x99), (.int x100)] sC0 (lw_V q1118 q1119 q1120 q155 q1121) cyV_X0_book (w_X0_book l G 2 (Nat.le_refl _) v1 x99 x100 M) (Nat.le_trans (Nat.le_of_ble_eq_true rfl) hd) (Nat.le_of_ble_eq_true rfl) rfl rfl (Nat.le_of_ble_eq_true rfl) rfl dL_law_627 (sKI fun x102 M101 => ?_)
        refine r_aload_n (pc := 630) dL_law_630 rfl ?_
        refine r_aload_n (pc := 631) dL_law_631 rfl ?_
        refine r_iload_n (pc := 632) dL_law_632 rfl ?_
        refine r_iconst (pc := 633) (1 : Int32) dL_law_633 (by decide) ?_
        refine r_iadd (pc := 634) dL_law_634 ?_
        refine r_iald (pc := 635) dL_law_635 fun x103 => ?_
        refine r_aload_n (pc := 636) dL_law_636 rfl ?_
        refine r_iload_n (pc := 637) dL_law_637 rfl ?_
        refine r_iconst (pc := 638) (2 : Int32) dL_law_638 (by decide) ?_
        refine r_iadd (pc := 639) dL_law_639 ?_
        refine r_iald (pc := 640) dL_law_640 fun x104 => ?_
        refine r_callV (pc := 641) [(.int x103), (.int x104)] sC3 (lw_V q1827 q1828 q1829 q158 q1830) cyV_X3_book (w_X3_book l G 2 (Nat.le_refl _) v2 x103 x104 M101) (Nat.le_trans (Nat.le_of_ble_eq_true rfl) hd) (Nat.le_of_ble_eq_true rfl) rfl rfl (Nat.le_of_ble_eq_true rfl) rfl dL_law_641 (sKI fun x106 M105 => ?_)
        refine r_icmp_eq (pc := 644) 1363 dL_law_644 rfl ?_ ?_
        · refine r_iinc (pc := 1363) (v3 + (6 : Int32)) [some (.ref v0), some (.ref v1), some (.ref v2), some (.int (v3 + (6 : Int32)))] dL_law_1363 rfl rfl (Nat.le_of_ble_eq_true rfl) rfl ?_
          refine r_goto (pc := 1366) 18 dL_law_1366 rfl ?_
          exact ih (v3 + (6 : Int32)) M105
        · refine r_iconst (pc := 647) (0 : Int32) dL_law_647 (by decide) ?_
          exact r_nret rfl rfl dL_law_648
      rw [if_neg h12_33]
      by_cases h13_33 : (x2 &&& (63 : Int32)) = 13
      · rw [if_pos h13_33]
        refine r_tableIn (pc := 33) 649 dL_law_33 (by rw [h13_33]; decide) (by rw [h13_33]; decide) (by rw [h13_33] <;> rfl) rfl ?_
        refine r_aload_n (pc := 649) dL_law_649 rfl ?_
        refine r_aload_n (pc := 650) dL_law_650 rfl ?_
        refine r_iload_n (pc := 651) dL_law_651 rfl ?_
        refine r_iconst (pc := 652) (1 : Int32) dL_law_652 (by decide) ?_
        refine r_iadd (pc := 653) dL_law_653 ?_
        refine r_iald (pc := 654) dL_law_654 fun x107 => ?_
        refine r_aload_n (pc := 655) dL_law_655 rfl ?_
        refine r_iload_n (pc := 656) dL_law_656 rfl ?_
        refine r_iconst (pc := 657) (2 : Int32) dL_law_657 (by decide) ?_
        refine r_iadd (pc := 658) dL_law_658 ?_
        refine r_iald (pc := 659) dL_law_659 fun x108 => ?_
        refine r_callV (pc := 660) [(.int x107), (.int x108)] sC0 (lw_V q1122 q1123 q1124 q155 q1125) cyV_X0_goes (w_X0_goes l G 607 (Nat.le_refl _) v1 x107 x108 M) (Nat.le_trans (Nat.le_of_ble_eq_true rfl) hd) (Nat.le_of_ble_eq_true rfl) rfl rfl (Nat.le_of_ble_eq_true rfl) rfl dL_law_660 (sKI fun x110 M109 => ?_)
        refine r_aload_n (pc := 663) dL_law_663 rfl ?_
        refine r_aload_n (pc := 664) dL_law_664 rfl ?_
        refine r_iload_n (pc := 665) dL_law_665 rfl ?_
        refine r_iconst (pc := 666) (1 : Int32) dL_law_666 (by decide) ?_
        refine r_iadd (pc := 667) dL_law_667 ?_
        refine r_iald (pc := 668) dL_law_668 fun x111 => ?_
        refine r_aload_n (pc := 669) dL_law_669 rfl ?_
        refine r_iload_n (pc := 670) dL_law_670 rfl ?_
        refine r_iconst (pc := 671) (2 : Int32) dL_law_671 (by decide) ?_
        refine r_iadd (pc := 672) dL_law_672 ?_
        refine r_iald (pc := 673) dL_law_673 fun x112 => ?_
        refine r_callV (pc := 674) [(.int x111), (.int x112)] sC3 (lw_V q1831 q1832 q1833 q158 q1834) cyV_X3_goes (w_X3_goes l G 10 (Nat.le_refl _) v2 x111 x112 M109) (Nat.le_trans (Nat.le_of_ble_eq_true rfl) hd) (Nat.le_of_ble_eq_true rfl) rfl rfl (Nat.le_of_ble_eq_true rfl) rfl dL_law_674 (sKI fun x114 M113 => ?_)
        refine r_icmp_eq (pc := 677) 1363 dL_law_677 rfl ?_ ?_
        · refine r_iinc (pc := 1363) (v3 + (6 : Int32)) [some (.ref v0), some (.ref v1), some (.ref v2), some (.int (v3 + (6 : Int32)))] dL_law_1363 rfl rfl (Nat.le_of_ble_eq_true rfl) rfl ?_
          refine r_goto (pc := 1366) 18 dL_law_1366 rfl ?_
          exact ih (v3 + (6 : Int32)) M113
        · refine r_iconst (pc := 680) (0 : Int32) dL_law_680 (by decide) ?_
          exact r_nret rfl rfl dL_law_681
      rw [if_neg h13_33]
      by_cases h14_33 : (x2 &&& (63 : Int32)) = 14
      · rw [if_pos h14_33]
        refine r_tableIn (pc := 33) 682 dL_law_33 (by rw [h14_33]; decide) (by rw [h14_33]; decide) (by rw [h14_33] <;> rfl) rfl ?_
        refine r_aload_n (pc := 682) dL_law_682 rfl ?_
        refine r_aload_n (pc := 683) dL_law_683 rfl ?_
        refine r_iload_n (pc := 684) dL_law_684 rfl ?_
        refine r_iconst (pc := 685) (1 : Int32) dL_law_685 (by decide) ?_
        refine r_iadd (pc := 686) dL_law_686 ?_
        refine r_iald (pc := 687) dL_law_687 fun x115 => ?_
        refine r_aload_n (pc := 688) dL_law_688 rfl ?_
        refine r_iload_n (pc := 689) dL_law_689 rfl ?_
        refine r_iconst (pc := 690) (2 : Int32) dL_law_690 (by decide) ?_
        refine r_iadd (pc := 691) dL_law_691 ?_
        refine r_iald (pc := 692) dL_law_692 fun x116 => ?_
        refine r_aload_n (pc := 693) dL_law_693 rfl ?_
        refine r_iload_n (pc := 694) dL_law_694 rfl ?_
        refine r_iconst (pc := 695) (3 : Int32) dL_law_695 (by decide) ?_
        refine r_iadd (pc := 696) dL_law_696 ?_
        refine r_iald (pc := 697) dL_law_697 fun x117 => ?_
        refine r_callV (pc := 698) [(.int x115), (.int x116), (.int x117)] sC0 (lw_V q1146 q1147 q1148 q155 q1149) cyV_X0_would (w_X0_would l G 3 (Nat.le_refl _) v1 x115 x116 x117 M) (Nat.le_trans (Nat.le_of_ble_eq_true rfl) hd) (Nat.le_of_ble_eq_true rfl) rfl rfl (Nat.le_of_ble_eq_true rfl) rfl dL_law_698 (sKI fun x119 M118 => ?_)
        refine r_aload_n (pc := 701) dL_law_701 rfl ?_
        refine r_aload_n (pc := 702) dL_law_702 rfl ?_
        refine r_iload_n (pc := 703) dL_law_703 rfl ?_
        refine r_iconst (pc := 704) (1 : Int32) dL_law_704 (by decide) ?_
        refine r_iadd (pc := 705) dL_law_705 ?_
        refine r_iald (pc := 706) dL_law_706 fun x120 => ?_
        refine r_aload_n (pc := 707) dL_law_707 rfl ?_
        refine r_iload_n (pc := 708) dL_law_708 rfl ?_
        refine r_iconst (pc := 709) (2 : Int32) dL_law_709 (by decide) ?_
        refine r_iadd (pc := 710) dL_law_710 ?_
        refine r_iald (pc := 711) dL_law_711 fun x121 => ?_
        refine r_aload_n (pc := 712) dL_law_712 rfl ?_
        refine r_iload_n (pc := 713) dL_law_713 rfl ?_
        refine r_iconst (pc := 714) (3 : Int32) dL_law_714 (by decide) ?_
        refine r_iadd (pc := 715) dL_law_715 ?_
        refine r_iald (pc := 716) dL_law_716 fun x122 => ?_
        refine r_callV (pc := 717) [(.int x120), (.int x121), (.int x122)] sC3 (lw_V q1839 q1840 q1841 q158 q1842) cyV_X3_would (w_X3_would l G 4 (Nat.le_refl _) v2 x120 x121 x122 M118) (Nat.le_trans (Nat.le_of_ble_eq_true rfl) hd) (Nat.le_of_ble_eq_true rfl) rfl rfl (Nat.le_of_ble_eq_true rfl) rfl dL_law_717 (sKI fun x124 M123 => ?_)
        refine r_icmp_eq (pc := 720) 1363 dL_law_720 rfl ?_ ?_
        · refine r_iinc (pc := 1363) (v3 + (6 : Int32)) [some (.ref v0), some (.ref v1), some (.ref v2), some (.int (v3 + (6 : Int32)))] dL_law_1363 rfl rfl (Nat.le_of_ble_eq_true rfl) rfl ?_
          refine r_goto (pc := 1366) 18 dL_law_1366 rfl ?_
          exact ih (v3 + (6 : Int32)) M123
        · refine r_iconst (pc := 723) (0 : Int32) dL_law_723 (by decide) ?_
          exact r_nret rfl rfl dL_law_724
      rw [if_neg h14_33]
      by_cases h15_33 : (x2 &&& (63 : Int32)) = 15
      · rw [if_pos h15_33]
        refine r_tableIn (pc := 33) 725 dL_law_33 (by rw [h15_33]; decide) (by rw [h15_33]; decide) (by rw [h15_33] <;> rfl) rfl ?_
        refine r_aload_n (pc := 725) dL_law_725 rfl ?_
        refine r_aload_n (pc := 726) dL_law_726 rfl ?_
        refine r_iload_n (pc := 727) dL_law_727 rfl ?_
        refine r_iconst (pc := 728) (1 : Int32) dL_law_728 (by decide) ?_
        refine r_iadd (pc := 729) dL_law_729 ?_
        refine r_iald (pc := 730) dL_law_730 fun x125 => ?_
        refine r_aload_n (pc := 731) dL_law_731 rfl ?_
        refine r_iload_n (pc := 732) dL_law_732 rfl ?_
        refine r_iconst (pc := 733) (2 : Int32) dL_law_733 (by decide) ?_
        refine r_iadd (pc := 734) dL_law_734 ?_
        refine r_iald (pc := 735) dL_law_735 fun x126 => ?_
        refine r_callV (pc := 736) [(.int x125), (.int x126)] sC0 (lw_V q1151 q1152 q1153 q155 q1154) cyV_X0_reads (w_X0_reads l G 3 (Nat.le_refl _) v1 x125 x126 M) (Nat.le_trans (Nat.le_of_ble_eq_true rfl) hd) (Nat.le_of_ble_eq_true rfl) rfl rfl (Nat.le_of_ble_eq_true rfl) rfl dL_law_736 (sKI fun x128 M127 => ?_)
        refine r_aload_n (pc := 739) dL_law_739 rfl ?_
        refine r_aload_n (pc := 740) dL_law_740 rfl ?_
        refine r_iload_n (pc := 741) dL_law_741 rfl ?_
        refine r_iconst (pc := 742) (1 : Int32) dL_law_742 (by decide) ?_
        refine r_iadd (pc := 743) dL_law_743 ?_
        refine r_iald (pc := 744) dL_law_744 fun x129 => ?_
        refine r_aload_n (pc := 745) dL_law_745 rfl ?_
        refine r_iload_n (pc := 746) dL_law_746 rfl ?_
        refine r_iconst (pc := 747) (2 : Int32) dL_law_747 (by decide) ?_
        refine r_iadd (pc := 748) dL_law_748 ?_
        refine r_iald (pc := 749) dL_law_749 fun x130 => ?_
        refine r_callV (pc := 750) [(.int x129), (.int x130)] sC3 (lw_V q1847 q1848 q1849 q158 q1850) cyV_X3_reads (w_X3_reads l G 2 (Nat.le_refl _) v2 x129 x130 M127) (Nat.le_trans (Nat.le_of_ble_eq_true rfl) hd) (Nat.le_of_ble_eq_true rfl) rfl rfl (Nat.le_of_ble_eq_true rfl) rfl dL_law_750 (sKI fun x132 M131 => ?_)
        refine r_icmp_eq (pc := 753) 1363 dL_law_753 rfl ?_ ?_
        · refine r_iinc (pc := 1363) (v3 + (6 : Int32)) [some (.ref v0), some (.ref v1), some (.ref v2), some (.int (v3 + (6 : Int32)))] dL_law_1363 rfl rfl (Nat.le_of_ble_eq_true rfl) rfl ?_
          refine r_goto (pc := 1366) 18 dL_law_1366 rfl ?_
          exact ih (v3 + (6 : Int32)) M131
        · refine r_iconst (pc := 756) (0 : Int32) dL_law_756 (by decide) ?_
          exact r_nret rfl rfl dL_law_757
      rw [if_neg h15_33]
      by_cases h16_33 : (x2 &&& (63 : Int32)) = 16
      · rw [if_pos h16_33]
        refine r_tableIn (pc := 33) 758 dL_law_33 (by rw [h16_33]; decide) (by rw [h16_33]; decide) (by rw [h16_33] <;> rfl) rfl ?_
        refine r_aload_n (pc := 758) dL_law_758 rfl ?_
        refine r_aload_n (pc := 759) dL_law_759 rfl ?_
        refine r_iload_n (pc := 760) dL_law_760 rfl ?_
        refine r_iconst (pc := 761) (1 : Int32) dL_law_761 (by decide) ?_
        refine r_iadd (pc := 762) dL_law_762 ?_
        refine r_iald (pc := 763) dL_law_763 fun x133 => ?_
        refine r_callV (pc := 764) [(.int x133)] sC0 (lw_V q1167 q1168 q1169 q155 q1170) cyV_X0_fits (w_X0_fits l G 7 (Nat.le_refl _) v1 x133 M) (Nat.le_trans (Nat.le_of_ble_eq_true rfl) hd) (Nat.le_of_ble_eq_true rfl) rfl rfl (Nat.le_of_ble_eq_true rfl) rfl dL_law_764 (sKI fun x135 M134 => ?_)
        refine r_aload_n (pc := 767) dL_law_767 rfl ?_
        refine r_aload_n (pc := 768) dL_law_768 rfl ?_
        refine r_iload_n (pc := 769) dL_law_769 rfl ?_
        refine r_iconst (pc := 770) (1 : Int32) dL_law_770 (by decide) ?_
        refine r_iadd (pc := 771) dL_law_771 ?_
        refine r_iald (pc := 772) dL_law_772 fun x136 => ?_
        refine r_callV (pc := 773) [(.int x136)] sC3 (lw_V q1851 q1852 q1853 q158 q1854) cyV_X3_fits (w_X3_fits l G 7 (Nat.le_refl _) v2 x136 M134) (Nat.le_trans (Nat.le_of_ble_eq_true rfl) hd) (Nat.le_of_ble_eq_true rfl) rfl rfl (Nat.le_of_ble_eq_true rfl) rfl dL_law_773 (sKI fun x138 M137 => ?_)
        refine r_icmp_eq (pc := 776) 1363 dL_law_776 rfl ?_ ?_
        · refine r_iinc (pc := 1363) (v3 + (6 : Int32)) [some (.ref v0), some (.ref v1), some (.ref v2), some (.int (v3 + (6 : Int32)))] dL_law_1363 rfl rfl (Nat.le_of_ble_eq_true rfl) rfl ?_
          refine r_goto (pc := 1366) 18 dL_law_1366 rfl ?_
          exact ih (v3 + (6 : Int32)) M137
        · refine r_iconst (pc := 779) (0 : Int32) dL_law_779 (by decide) ?_
          exact r_nret rfl rfl dL_law_780
      rw [if_neg h16_33]
      by_cases h17_33 : (x2 &&& (63 : Int32)) = 17
      · rw [if_pos h17_33]
        refine r_tableIn (pc := 33) 781 dL_law_33 (by rw [h17_33]; decide) (by rw [h17_33]; decide) (by rw [h17_33] <;> rfl) rfl ?_
        refine r_aload_n (pc := 781) dL_law_781 rfl ?_
        refine r_aload_n (pc := 782) dL_law_782 rfl ?_
        refine r_iload_n (pc := 783) dL_law_783 rfl ?_
        refine r_iconst (pc := 784) (1 : Int32) dL_law_784 (by decide) ?_
        refine r_iadd (pc := 785) dL_law_785 ?_
        refine r_iald (pc := 786) dL_law_786 fun x139 => ?_
        refine r_callV (pc := 787) [(.int x139)] sC0 (lw_V q1204 q1205 q1206 q155 q1207) cyV_X0_reel (w_X0_reel l G 9 (Nat.le_refl _) v1 x139 M) (Nat.le_trans (Nat.le_of_ble_eq_true rfl) hd) (Nat.le_of_ble_eq_true rfl) rfl rfl (Nat.le_of_ble_eq_true rfl) rfl dL_law_787 (sKI fun x141 M140 => ?_)
        refine r_aload_n (pc := 790) dL_law_790 rfl ?_
        refine r_aload_n (pc := 791) dL_law_791 rfl ?_
        refine r_iload_n (pc := 792) dL_law_792 rfl ?_
        refine r_iconst (pc := 793) (1 : Int32) dL_law_793 (by decide) ?_
        refine r_iadd (pc := 794) dL_law_794 ?_
        refine r_iald (pc := 795) dL_law_795 fun x142 => ?_
        refine r_callV (pc := 796) [(.int x142)] sC3 (lw_V q1867 q1868 q1869 q158 q1870) cyV_X3_reel (w_X3_reel l G 5 (Nat.le_refl _) v2 x142 M140) (Nat.le_trans (Nat.le_of_ble_eq_true rfl) hd) (Nat.le_of_ble_eq_true rfl) rfl rfl (Nat.le_of_ble_eq_true rfl) rfl dL_law_796 (sKI fun x144 M143 => ?_)
        refine r_icmp_eq (pc := 799) 1363 dL_law_799 rfl ?_ ?_
        · refine r_iinc (pc := 1363) (v3 + (6 : Int32)) [some (.ref v0), some (.ref v1), some (.ref v2), some (.int (v3 + (6 : Int32)))] dL_law_1363 rfl rfl (Nat.le_of_ble_eq_true rfl) rfl ?_
          refine r_goto (pc := 1366) 18 dL_law_1366 rfl ?_
          exact ih (v3 + (6 : Int32)) M143
        · refine r_iconst (pc := 802) (0 : Int32) dL_law_802 (by decide) ?_
          exact r_nret rfl rfl dL_law_803
      rw [if_neg h17_33]
      by_cases h18_33 : (x2 &&& (63 : Int32)) = 18
      · rw [if_pos h18_33]
        refine r_tableIn (pc := 33) 804 dL_law_33 (by rw [h18_33]; decide) (by rw [h18_33]; decide) (by rw [h18_33] <;> rfl) rfl ?_
        refine r_aload_n (pc := 804) dL_law_804 rfl ?_
        refine r_aload_n (pc := 805) dL_law_805 rfl ?_
        refine r_iload_n (pc := 806) dL_law_806 rfl ?_
        refine r_iconst (pc := 807) (1 : Int32) dL_law_807 (by decide) ?_
        refine r_iadd (pc := 808) dL_law_808 ?_
        refine r_iald (pc := 809) dL_law_809 fun x145 => ?_
        refine r_aload_n (pc := 810) dL_law_810 rfl ?_
        refine r_iload_n (pc := 811) dL_law_811 rfl ?_
        refine r_iconst (pc := 812) (2 : Int32) dL_law_812 (by decide) ?_
        refine r_iadd (pc := 813) dL_law_813 ?_
        refine r_iald (pc := 814) dL_law_814 fun x146 => ?_
        refine r_callV (pc := 815) [(.int x145), (.int x146)] sC0 (lw_V q1235 q1236 q1237 q155 q1238) cyV_X0_unlike (w_X0_unlike l G 3 (Nat.le_refl _) v1 x145 x146 M) (Nat.le_trans (Nat.le_of_ble_eq_true rfl) hd) (Nat.le_of_ble_eq_true rfl) rfl rfl (Nat.le_of_ble_eq_true rfl) rfl dL_law_815 (sKI fun x148 M147 => ?_)
        refine r_aload_n (pc := 818) dL_law_818 rfl ?_
        refine r_aload_n (pc := 819) dL_law_819 rfl ?_
        refine r_iload_n (pc := 820) dL_law_820 rfl ?_
        refine r_iconst (pc := 821) (1 : Int32) dL_law_821 (by decide) ?_
        refine r_iadd (pc := 822) dL_law_822 ?_
        refine r_iald (pc := 823) dL_law_823 fun x149 => ?_
        refine r_aload_n (pc := 824) dL_law_824 rfl ?_
        refine r_iload_n (pc := 825) dL_law_825 rfl ?_
        refine r_iconst (pc := 826) (2 : Int32) dL_law_826 (by decide) ?_
        refine r_iadd (pc := 827) dL_law_827 ?_
        refine r_iald (pc := 828) dL_law_828 fun x150 => ?_
        refine r_callV (pc := 829) [(.int x149), (.int x150)] sC3 (lw_V q1890 q1891 q1892 q158 q1893) cyV_X3_unlike (w_X3_unlike l G 3 (Nat.le_refl _) v2 x149 x150 M147) (Nat.le_trans (Nat.le_of_ble_eq_true rfl) hd) (Nat.le_of_ble_eq_true rfl) rfl rfl (Nat.le_of_ble_eq_true rfl) rfl dL_law_829 (sKI fun x152 M151 => ?_)
        refine r_icmp_eq (pc := 832) 1363 dL_law_832 rfl ?_ ?_
        · refine r_iinc (pc := 1363) (v3 + (6 : Int32)) [some (.ref v0), some (.ref v1), some (.ref v2), some (.int (v3 + (6 : Int32)))] dL_law_1363 rfl rfl (Nat.le_of_ble_eq_true rfl) rfl ?_
          refine r_goto (pc := 1366) 18 dL_law_1366 rfl ?_
          exact ih (v3 + (6 : Int32)) M151
        · refine r_iconst (pc := 835) (0 : Int32) dL_law_835 (by decide) ?_
          exact r_nret rfl rfl dL_law_836
      rw [if_neg h18_33]
      by_cases h19_33 : (x2 &&& (63 : Int32)) = 19
      · rw [if_pos h19_33]
        refine r_tableIn (pc := 33) 837 dL_law_33 (by rw [h19_33]; decide) (by rw [h19_33]; decide) (by rw [h19_33] <;> rfl) rfl ?_
        refine r_aload_n (pc := 837) dL_law_837 rfl ?_
        refine r_aload_n (pc := 838) dL_law_838 rfl ?_
        refine r_iload_n (pc := 839) dL_law_839 rfl ?_
        refine r_iconst (pc := 840) (1 : Int32) dL_law_840 (by decide) ?_
        refine r_iadd (pc := 841) dL_law_841 ?_
        refine r_iald (pc := 842) dL_law_842 fun x153 => ?_
        refine r_aload_n (pc := 843) dL_law_843 rfl ?_
        refine r_iload_n (pc := 844) dL_law_844 rfl ?_
        refine r_iconst (pc := 845) (2 : Int32) dL_law_845 (by decide) ?_
        refine r_iadd (pc := 846) dL_law_846 ?_
        refine r_iald (pc := 847) dL_law_847 fun x154 => ?_
        refine r_callV (pc := 848) [(.int x153), (.int x154)] sC0 (lw_V q1239 q1240 q1241 q155 q1242) cyV_X0_knot (w_X0_knot l G 3 (Nat.le_refl _) v1 x153 x154 M) (Nat.le_trans (Nat.le_of_ble_eq_true rfl) hd) (Nat.le_of_ble_eq_true rfl) rfl rfl (Nat.le_of_ble_eq_true rfl) rfl dL_law_848 (sKI fun x156 M155 => ?_)
        refine r_aload_n (pc := 851) dL_law_851 rfl ?_
        refine r_aload_n (pc := 852) dL_law_852 rfl ?_
        refine r_iload_n (pc := 853) dL_law_853 rfl ?_
        refine r_iconst (pc := 854) (1 : Int32) dL_law_854 (by decide) ?_
        refine r_iadd (pc := 855) dL_law_855 ?_
        refine r_iald (pc := 856) dL_law_856 fun x157 => ?_
        refine r_aload_n (pc := 857) dL_law_857 rfl ?_
        refine r_iload_n (pc := 858) dL_law_858 rfl ?_
        refine r_iconst (pc := 859) (2 : Int32) dL_law_859 (by decide) ?_
        refine r_iadd (pc := 860) dL_law_860 ?_
        refine r_iald (pc := 861) dL_law_861 fun x158 => ?_
        refine r_callV (pc := 862) [(.int x157), (.int x158)] sC3 (lw_V q1922 q1923 q1924 q158 q1925) cyV_X3_knot (w_X3_knot l G 2 (Nat.le_refl _) v2 x157 x158 M155) (Nat.le_trans (Nat.le_of_ble_eq_true rfl) hd) (Nat.le_of_ble_eq_true rfl) rfl rfl (Nat.le_of_ble_eq_true rfl) rfl dL_law_862 (sKI fun x160 M159 => ?_)
        refine r_icmp_eq (pc := 865) 1363 dL_law_865 rfl ?_ ?_
        · refine r_iinc (pc := 1363) (v3 + (6 : Int32)) [some (.ref v0), some (.ref v1), some (.ref v2), some (.int (v3 + (6 : Int32)))] dL_law_1363 rfl rfl (Nat.le_of_ble_eq_true rfl) rfl ?_
          refine r_goto (pc := 1366) 18 dL_law_1366 rfl ?_
          exact ih (v3 + (6 : Int32)) M159
        · refine r_iconst (pc := 868) (0 : Int32) dL_law_868 (by decide) ?_
          exact r_nret rfl rfl dL_law_869
      rw [if_neg h19_33]
      by_cases h20_33 : (x2 &&& (63 : Int32)) = 20
      · rw [if_pos h20_33]
        refine r_tableIn (pc := 33) 870 dL_law_33 (by rw [h20_33]; decide) (by rw [h20_33]; decide) (by rw [h20_33] <;> rfl) rfl ?_
        refine r_aload_n (pc := 870) dL_law_870 rfl ?_
        refine r_aload_n (pc := 871) dL_law_871 rfl ?_
        refine r_iload_n (pc := 872) dL_law_872 rfl ?_
        refine r_iconst (pc := 873) (1 : Int32) dL_law_873 (by decide) ?_
        refine r_iadd (pc := 874) dL_law_874 ?_
        refine r_iald (pc := 875) dL_law_875 fun x161 => ?_
        refine r_callV (pc := 876) [(.int x161)] sC0 (lw_V q1243 q1244 q1245 q155 q1246) cyV_X0_cuts (w_X0_cuts l G 8 (Nat.le_refl _) v1 x161 M) (Nat.le_trans (Nat.le_of_ble_eq_true rfl) hd) (Nat.le_of_ble_eq_true rfl) rfl rfl (Nat.le_of_ble_eq_true rfl) rfl dL_law_876 (sKI fun x163 M162 => ?_)
        refine r_aload_n (pc := 879) dL_law_879 rfl ?_
        refine r_aload_n (pc := 880) dL_law_880 rfl ?_
        refine r_iload_n (pc := 881) dL_law_881 rfl ?_
        refine r_iconst (pc := 882) (1 : Int32) dL_law_882 (by decide) ?_
        refine r_iadd (pc := 883) dL_law_883 ?_
        refine r_iald (pc := 884) dL_law_884 fun x164 => ?_
        refine r_callV (pc := 885) [(.int x164)] sC3 (lw_V q1926 q1927 q1928 q158 q1929) cyV_X3_cuts (w_X3_cuts l G 2 (Nat.le_refl _) v2 x164 M162) (Nat.le_trans (Nat.le_of_ble_eq_true rfl) hd) (Nat.le_of_ble_eq_true rfl) rfl rfl (Nat.le_of_ble_eq_true rfl) rfl dL_law_885 (sKI fun x166 M165 => ?_)
        refine r_icmp_eq (pc := 888) 1363 dL_law_888 rfl ?_ ?_
        · refine r_iinc (pc := 1363) (v3 + (6 : Int32)) [some (.ref v0), some (.ref v1), some (.ref v2), some (.int (v3 + (6 : Int32)))] dL_law_1363 rfl rfl (Nat.le_of_ble_eq_true rfl) rfl ?_
          refine r_goto (pc := 1366) 18 dL_law_1366 rfl ?_
          exact ih (v3 + (6 : Int32)) M165
        · refine r_iconst (pc := 891) (0 : Int32) dL_law_891 (by decide) ?_
          exact r_nret rfl rfl dL_law_892
      rw [if_neg h20_33]
      by_cases h21_33 : (x2 &&& (63 : Int32)) = 21
      · rw [if_pos h21_33]
        refine r_tableIn (pc := 33) 893 dL_law_33 (by rw [h21_33]; decide) (by rw [h21_33]; decide) (by rw [h21_33] <;> rfl) rfl ?_
        refine r_aload_n (pc := 893) dL_law_893 rfl ?_
        refine r_aload_n (pc := 894) dL_law_894 rfl ?_
        refine r_iload_n (pc := 895) dL_law_895 rfl ?_
        refine r_iconst (pc := 896) (1 : Int32) dL_law_896 (by decide) ?_
        refine r_iadd (pc := 897) dL_law_897 ?_
        refine r_iald (pc := 898) dL_law_898 fun x167 => ?_
        refine r_aload_n (pc := 899) dL_law_899 rfl ?_
        refine r_iload_n (pc := 900) dL_law_900 rfl ?_
        refine r_iconst (pc := 901) (2 : Int32) dL_law_901 (by decide) ?_
        refine r_iadd (pc := 902) dL_law_902 ?_
        refine r_iald (pc := 903) dL_law_903 fun x168 => ?_
        refine r_callV (pc := 904) [(.int x167), (.int x168)] sC0 (lw_V q1257 q1258 q1259 q155 q1260) cyV_X0_keeps (w_X0_keeps l G 7 (Nat.le_refl _) v1 x167 x168 M) (Nat.le_trans (Nat.le_of_ble_eq_true rfl) hd) (Nat.le_of_ble_eq_true rfl) rfl rfl (Nat.le_of_ble_eq_true rfl) rfl dL_law_904 (sKI fun x170 M169 => ?_)
        refine r_aload_n (pc := 907) dL_law_907 rfl ?_
        refine r_aload_n (pc := 908) dL_law_908 rfl ?_
        refine r_iload_n (pc := 909) dL_law_909 rfl ?_
        refine r_iconst (pc := 910) (1 : Int32) dL_law_910 (by decide) ?_
        refine r_iadd (pc := 911) dL_law_911 ?_
        refine r_iald (pc := 912) dL_law_912 fun x171 => ?_
        refine r_aload_n (pc := 913) dL_law_913 rfl ?_
        refine r_iload_n (pc := 914) dL_law_914 rfl ?_
        refine r_iconst (pc := 915) (2 : Int32) dL_law_915 (by decide) ?_
        refine r_iadd (pc := 916) dL_law_916 ?_
        refine r_iald (pc := 917) dL_law_917 fun x172 => ?_
        refine r_callV (pc := 918) [(.int x171), (.int x172)] sC3 (lw_V q1934 q1935 q1936 q158 q1937) cyV_X3_keeps (w_X3_keeps l G 3 (Nat.le_refl _) v2 x171 x172 M169) (Nat.le_trans (Nat.le_of_ble_eq_true rfl) hd) (Nat.le_of_ble_eq_true rfl) rfl rfl (Nat.le_of_ble_eq_true rfl) rfl dL_law_918 (sKI fun x174 M173 => ?_)
        refine r_icmp_eq (pc := 921) 1363 dL_law_921 rfl ?_ ?_
        · refine r_iinc (pc := 1363) (v3 + (6 : Int32)) [some (.ref v0), some (.ref v1), some (.ref v2), some (.int (v3 + (6 : Int32)))] dL_law_1363 rfl rfl (Nat.le_of_ble_eq_true rfl) rfl ?_
          refine r_goto (pc := 1366) 18 dL_law_1366 rfl ?_
          exact ih (v3 + (6 : Int32)) M173
        · refine r_iconst (pc := 924) (0 : Int32) dL_law_924 (by decide) ?_
          exact r_nret rfl rfl dL_law_925
      rw [if_neg h21_33]
      by_cases h22_33 : (x2 &&& (63 : Int32)) = 22
      · rw [if_pos h22_33]
        refine r_tableIn (pc := 33) 926 dL_law_33 (by rw [h22_33]; decide) (by rw [h22_33]; decide) (by rw [h22_33] <;> rfl) rfl ?_
        refine r_aload_n (pc := 926) dL_law_926 rfl ?_
        refine r_aload_n (pc := 927) dL_law_927 rfl ?_
        refine r_iload_n (pc := 928) dL_law_928 rfl ?_
        refine r_iconst (pc := 929) (1 : Int32) dL_law_929 (by decide) ?_
        refine r_iadd (pc := 930) dL_law_930 ?_
        refine r_iald (pc := 931) dL_law_931 fun x175 => ?_
        refine r_callV (pc := 932) [(.int x175)] sC0 (lw_V q1265 q1266 q1267 q155 q1268) cyV_X0_trays (w_X0_trays l G 5 (Nat.le_refl _) v1 x175 M) (Nat.le_trans (Nat.le_of_ble_eq_true rfl) hd) (Nat.le_of_ble_eq_true rfl) rfl rfl (Nat.le_of_ble_eq_true rfl) rfl dL_law_932 (sKI fun x177 M176 => ?_)
        refine r_aload_n (pc := 935) dL_law_935 rfl ?_
        refine r_aload_n (pc := 936) dL_law_936 rfl ?_
        refine r_iload_n (pc := 937) dL_law_937 rfl ?_
        refine r_iconst (pc := 938) (1 : Int32) dL_law_938 (by decide) ?_
        refine r_iadd (pc := 939) dL_law_939 ?_
        refine r_iald (pc := 940) dL_law_940 fun x178 => ?_
        refine r_callV (pc := 941) [(.int x178)] sC3 (lw_V q1942 q1943 q1944 q158 q1945) cyV_X3_trays (w_X3_trays l G 5 (Nat.le_refl _) v2 x178 M176) (Nat.le_trans (Nat.le_of_ble_eq_true rfl) hd) (Nat.le_of_ble_eq_true rfl) rfl rfl (Nat.le_of_ble_eq_true rfl) rfl dL_law_941 (sKI fun x180 M179 => ?_)
        refine r_icmp_eq (pc := 944) 1363 dL_law_944 rfl ?_ ?_
        · refine r_iinc (pc := 1363) (v3 + (6 : Int32)) [some (.ref v0), some (.ref v1), some (.ref v2), some (.int (v3 + (6 : Int32)))] dL_law_1363 rfl rfl (Nat.le_of_ble_eq_true rfl) rfl ?_
          refine r_goto (pc := 1366) 18 dL_law_1366 rfl ?_
          exact ih (v3 + (6 : Int32)) M179
        · refine r_iconst (pc := 947) (0 : Int32) dL_law_947 (by decide) ?_
          exact r_nret rfl rfl dL_law_948
      rw [if_neg h22_33]
      by_cases h23_33 : (x2 &&& (63 : Int32)) = 23
      · rw [if_pos h23_33]
        refine r_tableIn (pc := 33) 949 dL_law_33 (by rw [h23_33]; decide) (by rw [h23_33]; decide) (by rw [h23_33] <;> rfl) rfl ?_
        refine r_aload_n (pc := 949) dL_law_949 rfl ?_
        refine r_aload_n (pc := 950) dL_law_950 rfl ?_
        refine r_iload_n (pc := 951) dL_law_951 rfl ?_
        refine r_iconst (pc := 952) (1 : Int32) dL_law_952 (by decide) ?_
        refine r_iadd (pc := 953) dL_law_953 ?_
        refine r_iald (pc := 954) dL_law_954 fun x181 => ?_
        refine r_callV (pc := 955) [(.int x181)] sC0 (lw_V q1281 q1282 q1283 q155 q1284) cyV_X0_answered (w_X0_answered l G 8 (Nat.le_refl _) v1 x181 M) (Nat.le_trans (Nat.le_of_ble_eq_true rfl) hd) (Nat.le_of_ble_eq_true rfl) rfl rfl (Nat.le_of_ble_eq_true rfl) rfl dL_law_955 (sKI fun x183 M182 => ?_)
        refine r_aload_n (pc := 958) dL_law_958 rfl ?_
        refine r_aload_n (pc := 959) dL_law_959 rfl ?_
        refine r_iload_n (pc := 960) dL_law_960 rfl ?_
        refine r_iconst (pc := 961) (1 : Int32) dL_law_961 (by decide) ?_
        refine r_iadd (pc := 962) dL_law_962 ?_
        refine r_iald (pc := 963) dL_law_963 fun x184 => ?_
        refine r_callV (pc := 964) [(.int x184)] sC3 (lw_V q1962 q1963 q1964 q158 q1965) cyV_X3_answered (w_X3_answered l G 6 (Nat.le_refl _) v2 x184 M182) (Nat.le_trans (Nat.le_of_ble_eq_true rfl) hd) (Nat.le_of_ble_eq_true rfl) rfl rfl (Nat.le_of_ble_eq_true rfl) rfl dL_law_964 (sKI fun x186 M185 => ?_)
        refine r_icmp_eq (pc := 967) 1363 dL_law_967 rfl ?_ ?_
        · refine r_iinc (pc := 1363) (v3 + (6 : Int32)) [some (.ref v0), some (.ref v1), some (.ref v2), some (.int (v3 + (6 : Int32)))] dL_law_1363 rfl rfl (Nat.le_of_ble_eq_true rfl) rfl ?_
          refine r_goto (pc := 1366) 18 dL_law_1366 rfl ?_
          exact ih (v3 + (6 : Int32)) M185
        · refine r_iconst (pc := 970) (0 : Int32) dL_law_970 (by decide) ?_
          exact r_nret rfl rfl dL_law_971
      rw [if_neg h23_33]
      by_cases h24_33 : (x2 &&& (63 : Int32)) = 24
      · rw [if_pos h24_33]
        refine r_tableIn (pc := 33) 972 dL_law_33 (by rw [h24_33]; decide) (by rw [h24_33]; decide) (by rw [h24_33] <;> rfl) rfl ?_
        refine r_aload_n (pc := 972) dL_law_972 rfl ?_
        refine r_aload_n (pc := 973) dL_law_973 rfl ?_
        refine r_iload_n (pc := 974) dL_law_974 rfl ?_
        refine r_iconst (pc := 975) (1 : Int32) dL_law_975 (by decide) ?_
        refine r_iadd (pc := 976) dL_law_976 ?_
        refine r_iald (pc := 977) dL_law_977 fun x187 => ?_
        refine r_callV (pc := 978) [(.int x187)] sC0 (lw_V q1299 q1300 q1301 q155 q1302) cyV_X0_scarf (w_X0_scarf l G 3 (Nat.le_refl _) v1 x187 M) (Nat.le_trans (Nat.le_of_ble_eq_true rfl) hd) (Nat.le_of_ble_eq_true rfl) rfl rfl (Nat.le_of_ble_eq_true rfl) rfl dL_law_978 (sKI fun x189 M188 => ?_)
        refine r_aload_n (pc := 981) dL_law_981 rfl ?_
        refine r_aload_n (pc := 982) dL_law_982 rfl ?_
        refine r_iload_n (pc := 983) dL_law_983 rfl ?_
        refine r_iconst (pc := 984) (1 : Int32) dL_law_984 (by decide) ?_
        refine r_iadd (pc := 985) dL_law_985 ?_
        refine r_iald (pc := 986) dL_law_986 fun x190 => ?_
        refine r_callV (pc := 987) [(.int x190)] sC3 (lw_V q1974 q1975 q1976 q158 q1977) cyV_X3_scarf (w_X3_scarf l G 2 (Nat.le_refl _) v2 x190 M188) (Nat.le_trans (Nat.le_of_ble_eq_true rfl) hd) (Nat.le_of_ble_eq_true rfl) rfl rfl (Nat.le_of_ble_eq_true rfl) rfl dL_law_987 (sKI fun x192 M191 => ?_)
        refine r_icmp_eq (pc := 990) 1363 dL_law_990 rfl ?_ ?_
        · refine r_iinc (pc := 1363) (v3 + (6 : Int32)) [some (.ref v0), some (.ref v1), some (.ref v2), some (.int (v3 + (6 : Int32)))] dL_law_1363 rfl rfl (Nat.le_of_ble_eq_true rfl) rfl ?_
          refine r_goto (pc := 1366) 18 dL_law_1366 rfl ?_
          exact ih (v3 + (6 : Int32)) M191
        · refine r_iconst (pc := 993) (0 : Int32) dL_law_993 (by decide) ?_
          exact r_nret rfl rfl dL_law_994
      rw [if_neg h24_33]
      by_cases h25_33 : (x2 &&& (63 : Int32)) = 25
      · rw [if_pos h25_33]
        refine r_tableIn (pc := 33) 995 dL_law_33 (by rw [h25_33]; decide) (by rw [h25_33]; decide) (by rw [h25_33] <;> rfl) rfl ?_
        refine r_aload_n (pc := 995) dL_law_995 rfl ?_
        refine r_aload_n (pc := 996) dL_law_996 rfl ?_
        refine r_iload_n (pc := 997) dL_law_997 rfl ?_
        refine r_iconst (pc := 998) (1 : Int32) dL_law_998 (by decide) ?_
        refine r_iadd (pc := 999) dL_law_999 ?_
        refine r_iald (pc := 1000) dL_law_1000 fun x193 => ?_
        refine r_callV (pc := 1001) [(.int x193)] sC0 (lw_V q1303 q1304 q1305 q155 q1306) cyV_X0_whose (w_X0_whose l G 7 (Nat.le_refl _) v1 x193 M) (Nat.le_trans (Nat.le_of_ble_eq_true rfl) hd) (Nat.le_of_ble_eq_true rfl) rfl rfl (Nat.le_of_ble_eq_true rfl) rfl dL_law_1001 (sKI fun x195 M194 => ?_)
        refine r_aload_n (pc := 1004) dL_law_1004 rfl ?_
        refine r_aload_n (pc := 1005) dL_law_1005 rfl ?_
        refine r_iload_n (pc := 1006) dL_law_1006 rfl ?_
        refine r_iconst (pc := 1007) (1 : Int32) dL_law_1007 (by decide) ?_
        refine r_iadd (pc := 1008) dL_law_1008 ?_
        refine r_iald (pc := 1009) dL_law_1009 fun x196 => ?_
        refine r_callV (pc := 1010) [(.int x196)] sC3 (lw_V q1978 q1979 q1980 q158 q1981) cyV_X3_whose (w_X3_whose l G 4 (Nat.le_refl _) v2 x196 M194) (Nat.le_trans (Nat.le_of_ble_eq_true rfl) hd) (Nat.le_of_ble_eq_true rfl) rfl rfl (Nat.le_of_ble_eq_true rfl) rfl dL_law_1010 (sKI fun x198 M197 => ?_)
        refine r_icmp_eq (pc := 1013) 1363 dL_law_1013 rfl ?_ ?_
        · refine r_iinc (pc := 1363) (v3 + (6 : Int32)) [some (.ref v0), some (.ref v1), some (.ref v2), some (.int (v3 + (6 : Int32)))] dL_law_1363 rfl rfl (Nat.le_of_ble_eq_true rfl) rfl ?_
          refine r_goto (pc := 1366) 18 dL_law_1366 rfl ?_
          exact ih (v3 + (6 : Int32)) M197
        · refine r_iconst (pc := 1016) (0 : Int32) dL_law_1016 (by decide) ?_
          exact r_nret rfl rfl dL_law_1017
      rw [if_neg h25_33]
      by_cases h26_33 : (x2 &&& (63 : Int32)) = 26
      · rw [if_pos h26_33]
        refine r_tableIn (pc := 33) 1018 dL_law_33 (by rw [h26_33]; decide) (by rw [h26_33]; decide) (by rw [h26_33] <;> rfl) rfl ?_
        refine r_aload_n (pc := 1018) dL_law_1018 rfl ?_
        refine r_aload_n (pc := 1019) dL_law_1019 rfl ?_
        refine r_iload_n (pc := 1020) dL_law_1020 rfl ?_
        refine r_iconst (pc := 1021) (1 : Int32) dL_law_1021 (by decide) ?_
        refine r_iadd (pc := 1022) dL_law_1022 ?_
        refine r_iald (pc := 1023) dL_law_1023 fun x199 => ?_
        refine r_aload_n (pc := 1024) dL_law_1024 rfl ?_
        refine r_iload_n (pc := 1025) dL_law_1025 rfl ?_
        refine r_iconst (pc := 1026) (2 : Int32) dL_law_1026 (by decide) ?_
        refine r_iadd (pc := 1027) dL_law_1027 ?_
        refine r_iald (pc := 1028) dL_law_1028 fun x200 => ?_
        refine r_aload_n (pc := 1029) dL_law_1029 rfl ?_
        refine r_iload_n (pc := 1030) dL_law_1030 rfl ?_
        refine r_iconst (pc := 1031) (3 : Int32) dL_law_1031 (by decide) ?_
        refine r_iadd (pc := 1032) dL_law_1032 ?_
        refine r_iald (pc := 1033) dL_law_1033 fun x201 => ?_
        refine r_callV (pc := 1034) [(.int x199), (.int x200), (.int x201)] sC0 (lw_V q1318 q1319 q1320 q155 q1321) cyV_X0_forged (w_X0_forged l G 2 (Nat.le_refl _) v1 x199 x200 x201 M) (Nat.le_trans (Nat.le_of_ble_eq_true rfl) hd) (Nat.le_of_ble_eq_true rfl) rfl rfl (Nat.le_of_ble_eq_true rfl) rfl dL_law_1034 (sKI fun x203 M202 => ?_)
        refine r_aload_n (pc := 1037) dL_law_1037 rfl ?_
        refine r_aload_n (pc := 1038) dL_law_1038 rfl ?_
        refine r_iload_n (pc := 1039) dL_law_1039 rfl ?_
        refine r_iconst (pc := 1040) (1 : Int32) dL_law_1040 (by decide) ?_
        refine r_iadd (pc := 1041) dL_law_1041 ?_
        refine r_iald (pc := 1042) dL_law_1042 fun x204 => ?_
        refine r_aload_n (pc := 1043) dL_law_1043 rfl ?_
        refine r_iload_n (pc := 1044) dL_law_1044 rfl ?_
        refine r_iconst (pc := 1045) (2 : Int32) dL_law_1045 (by decide) ?_
        refine r_iadd (pc := 1046) dL_law_1046 ?_
        refine r_iald (pc := 1047) dL_law_1047 fun x205 => ?_
        refine r_aload_n (pc := 1048) dL_law_1048 rfl ?_
        refine r_iload_n (pc := 1049) dL_law_1049 rfl ?_
        refine r_iconst (pc := 1050) (3 : Int32) dL_law_1050 (by decide) ?_
        refine r_iadd (pc := 1051) dL_law_1051 ?_
        refine r_iald (pc := 1052) dL_law_1052 fun x206 => ?_
        refine r_callV (pc := 1053) [(.int x204), (.int x205), (.int x206)] sC3 (lw_V q1994 q1995 q1996 q158 q1997) cyV_X3_forged (w_X3_forged l G 2 (Nat.le_refl _) v2 x204 x205 x206 M202) (Nat.le_trans (Nat.le_of_ble_eq_true rfl) hd) (Nat.le_of_ble_eq_true rfl) rfl rfl (Nat.le_of_ble_eq_true rfl) rfl dL_law_1053 (sKI fun x208 M207 => ?_)
        refine r_icmp_eq (pc := 1056) 1363 dL_law_1056 rfl ?_ ?_
        · refine r_iinc (pc := 1363) (v3 + (6 : Int32)) [some (.ref v0), some (.ref v1), some (.ref v2), some (.int (v3 + (6 : Int32)))] dL_law_1363 rfl rfl (Nat.le_of_ble_eq_true rfl) rfl ?_
          refine r_goto (pc := 1366) 18 dL_law_1366 rfl ?_
          exact ih (v3 + (6 : Int32)) M207
        · refine r_iconst (pc := 1059) (0 : Int32) dL_law_1059 (by decide) ?_
          exact r_nret rfl rfl dL_law_1060
      rw [if_neg h26_33]
      by_cases h27_33 : (x2 &&& (63 : Int32)) = 27
      · rw [if_pos h27_33]
        refine r_tableIn (pc := 33) 1061 dL_law_33 (by rw [h27_33]; decide) (by rw [h27_33]; decide) (by rw [h27_33] <;> rfl) rfl ?_
        refine r_aload_n (pc := 1061) dL_law_1061 rfl ?_
        refine r_aload_n (pc := 1062) dL_law_1062 rfl ?_
        refine r_iload_n (pc := 1063) dL_law_1063 rfl ?_
        refine r_iconst (pc := 1064) (1 : Int32) dL_law_1064 (by decide) ?_
        refine r_iadd (pc := 1065) dL_law_1065 ?_
        refine r_iald (pc := 1066) dL_law_1066 fun x209 => ?_
        refine r_aload_n (pc := 1067) dL_law_1067 rfl ?_
        refine r_iload_n (pc := 1068) dL_law_1068 rfl ?_
        refine r_iconst (pc := 1069) (2 : Int32) dL_law_1069 (by decide) ?_
        refine r_iadd (pc := 1070) dL_law_1070 ?_
        refine r_iald (pc := 1071) dL_law_1071 fun x210 => ?_
        refine r_callV (pc := 1072) [(.int x209), (.int x210)] sC0 (lw_V q1327 q1328 q1329 q155 q1330) cyV_X0_own (w_X0_own l G 3 (Nat.le_refl _) v1 x209 x210 M) (Nat.le_trans (Nat.le_of_ble_eq_true rfl) hd) (Nat.le_of_ble_eq_true rfl) rfl rfl (Nat.le_of_ble_eq_true rfl) rfl dL_law_1072 (sKI fun x212 M211 => ?_)
        refine r_aload_n (pc := 1075) dL_law_1075 rfl ?_
        refine r_aload_n (pc := 1076) dL_law_1076 rfl ?_
        refine r_iload_n (pc := 1077) dL_law_1077 rfl ?_
        refine r_iconst (pc := 1078) (1 : Int32) dL_law_1078 (by decide) ?_
        refine r_iadd (pc := 1079) dL_law_1079 ?_
        refine r_iald (pc := 1080) dL_law_1080 fun x213 => ?_
        refine r_aload_n (pc := 1081) dL_law_1081 rfl ?_
        refine r_iload_n (pc := 1082) dL_law_1082 rfl ?_
        refine r_iconst (pc := 1083) (2 : Int32) dL_law_1083 (by decide) ?_
        refine r_iadd (pc := 1084) dL_law_1084 ?_
        refine r_iald (pc := 1085) dL_law_1085 fun x214 => ?_
        refine r_callV (pc := 1086) [(.int x213), (.int x214)] sC3 (lw_V q2004 q2005 q2006 q158 q2007) cyV_X3_own (w_X3_own l G 3 (Nat.le_refl _) v2 x213 x214 M211) (Nat.le_trans (Nat.le_of_ble_eq_true rfl) hd) (Nat.le_of_ble_eq_true rfl) rfl rfl (Nat.le_of_ble_eq_true rfl) rfl dL_law_1086 (sKI fun x216 M215 => ?_)
        refine r_icmp_eq (pc := 1089) 1363 dL_law_1089 rfl ?_ ?_
        · refine r_iinc (pc := 1363) (v3 + (6 : Int32)) [some (.ref v0), some (.ref v1), some (.ref v2), some (.int (v3 + (6 : Int32)))] dL_law_1363 rfl rfl (Nat.le_of_ble_eq_true rfl) rfl ?_
          refine r_goto (pc := 1366) 18 dL_law_1366 rfl ?_
          exact ih (v3 + (6 : Int32)) M215
        · refine r_iconst (pc := 1092) (0 : Int32) dL_law_1092 (by decide) ?_
          exact r_nret rfl rfl dL_law_1093
      rw [if_neg h27_33]
      by_cases h28_33 : (x2 &&& (63 : Int32)) = 28
      · rw [if_pos h28_33]
        refine r_tableIn (pc := 33) 1094 dL_law_33 (by rw [h28_33]; decide) (by rw [h28_33]; decide) (by rw [h28_33] <;> rfl) rfl ?_
        refine r_aload_n (pc := 1094) dL_law_1094 rfl ?_
        refine r_callV (pc := 1095) [] sC0 (lw_V q1331 q1332 q1333 q155 q1334) cyV_X0_feedings (w_X0_feedings l G 2 (Nat.le_refl _) v1 M) (Nat.le_trans (Nat.le_of_ble_eq_true rfl) hd) (Nat.le_of_ble_eq_true rfl) rfl rfl (Nat.le_of_ble_eq_true rfl) rfl dL_law_1095 (sKI fun x218 M217 => ?_)
        refine r_aload_n (pc := 1098) dL_law_1098 rfl ?_
        refine r_callV (pc := 1099) [] sC3 (lw_V q2008 q2009 q2010 q158 q2011) cyV_X3_feedings (w_X3_feedings l G 2 (Nat.le_refl _) v2 M217) (Nat.le_trans (Nat.le_of_ble_eq_true rfl) hd) (Nat.le_of_ble_eq_true rfl) rfl rfl (Nat.le_of_ble_eq_true rfl) rfl dL_law_1099 (sKI fun x220 M219 => ?_)
        refine r_icmp_eq (pc := 1102) 1363 dL_law_1102 rfl ?_ ?_
        · refine r_iinc (pc := 1363) (v3 + (6 : Int32)) [some (.ref v0), some (.ref v1), some (.ref v2), some (.int (v3 + (6 : Int32)))] dL_law_1363 rfl rfl (Nat.le_of_ble_eq_true rfl) rfl ?_
          refine r_goto (pc := 1366) 18 dL_law_1366 rfl ?_
          exact ih (v3 + (6 : Int32)) M219
        · refine r_iconst (pc := 1105) (0 : Int32) dL_law_1105 (by decide) ?_
          exact r_nret rfl rfl dL_law_1106
      rw [if_neg h28_33]
      by_cases h29_33 : (x2 &&& (63 : Int32)) = 29
      · rw [if_pos h29_33]
        refine r_tableIn (pc := 33) 1107 dL_law_33 (by rw [h29_33]; decide) (by rw [h29_33]; decide) (by rw [h29_33] <;> rfl) rfl ?_
        refine r_aload_n (pc := 1107) dL_law_1107 rfl ?_
        refine r_aload_n (pc := 1108) dL_law_1108 rfl ?_
        refine r_iload_n (pc := 1109) dL_law_1109 rfl ?_
        refine r_iconst (pc := 1110) (1 : Int32) dL_law_1110 (by decide) ?_
        refine r_iadd (pc := 1111) dL_law_1111 ?_
        refine r_iald (pc := 1112) dL_law_1112 fun x221 => ?_
        refine r_callV (pc := 1113) [(.int x221)] sC0 (lw_V q1340 q1341 q1342 q155 q1343) cyV_X0_dyes (w_X0_dyes l G 3 (Nat.le_refl _) v1 x221 M) (Nat.le_trans (Nat.le_of_ble_eq_true rfl) hd) (Nat.le_of_ble_eq_true rfl) rfl rfl (Nat.le_of_ble_eq_true rfl) rfl dL_law_1113 (sKI fun x223 M222 => ?_)
        refine r_aload_n (pc := 1116) dL_law_1116 rfl ?_
        refine r_aload_n (pc := 1117) dL_law_1117 rfl ?_
        refine r_iload_n (pc := 1118) dL_law_1118 rfl ?_
        refine r_iconst (pc := 1119) (1 : Int32) dL_law_1119 (by decide) ?_
        refine r_iadd (pc := 1120) dL_law_1120 ?_
        refine r_iald (pc := 1121) dL_law_1121 fun x224 => ?_
        refine r_callV (pc := 1122) [(.int x224)] sC3 (lw_V q2017 q2018 q2019 q158 q2020) cyV_X3_dyes (w_X3_dyes l G 3 (Nat.le_refl _) v2 x224 M222) (Nat.le_trans (Nat.le_of_ble_eq_true rfl) hd) (Nat.le_of_ble_eq_true rfl) rfl rfl (Nat.le_of_ble_eq_true rfl) rfl dL_law_1122 (sKI fun x226 M225 => ?_)
        refine r_icmp_eq (pc := 1125) 1363 dL_law_1125 rfl ?_ ?_
        · refine r_iinc (pc := 1363) (v3 + (6 : Int32)) [some (.ref v0), some (.ref v1), some (.ref v2), some (.int (v3 + (6 : Int32)))] dL_law_1363 rfl rfl (Nat.le_of_ble_eq_true rfl) rfl ?_
          refine r_goto (pc := 1366) 18 dL_law_1366 rfl ?_
          exact ih (v3 + (6 : Int32)) M225
        · refine r_iconst (pc := 1128) (0 : Int32) dL_law_1128 (by decide) ?_
          exact r_nret rfl rfl dL_law_1129
      rw [if_neg h29_33]
      by_cases h30_33 : (x2 &&& (63 : Int32)) = 30
      · rw [if_pos h30_33]
        refine r_tableIn (pc := 33) 1130 dL_law_33 (by rw [h30_33]; decide) (by rw [h30_33]; decide) (by rw [h30_33] <;> rfl) rfl ?_
        refine r_aload_n (pc := 1130) dL_law_1130 rfl ?_
        refine r_aload_n (pc := 1131) dL_law_1131 rfl ?_
        refine r_iload_n (pc := 1132) dL_law_1132 rfl ?_
        refine r_iconst (pc := 1133) (1 : Int32) dL_law_1133 (by decide) ?_
        refine r_iadd (pc := 1134) dL_law_1134 ?_
        refine r_iald (pc := 1135) dL_law_1135 fun x227 => ?_
        refine r_callV (pc := 1136) [(.int x227)] sC0 (lw_V q1348 q1349 q1350 q155 q1351) cyV_X0_tally (w_X0_tally l G 7 (Nat.le_refl _) v1 x227 M) (Nat.le_trans (Nat.le_of_ble_eq_true rfl) hd) (Nat.le_of_ble_eq_true rfl) rfl rfl (Nat.le_of_ble_eq_true rfl) rfl dL_law_1136 (sKI fun x229 M228 => ?_)
        refine r_aload_n (pc := 1139) dL_law_1139 rfl ?_
        refine r_aload_n (pc := 1140) dL_law_1140 rfl ?_
        refine r_iload_n (pc := 1141) dL_law_1141 rfl ?_
        refine r_iconst (pc := 1142) (1 : Int32) dL_law_1142 (by decide) ?_
        refine r_iadd (pc := 1143) dL_law_1143 ?_
        refine r_iald (pc := 1144) dL_law_1144 fun x230 => ?_
        refine r_callV (pc := 1145) [(.int x230)] sC3 (lw_V q1894 q1895 q1896 q158 q1897) cyV_X3_tally (w_X3_tally l G 3 (Nat.le_refl _) v2 x230 M228) (Nat.le_trans (Nat.le_of_ble_eq_true rfl) hd) (Nat.le_of_ble_eq_true rfl) rfl rfl (Nat.le_of_ble_eq_true rfl) rfl dL_law_1145 (sKI fun x232 M231 => ?_)
        refine r_icmp_eq (pc := 1148) 1363 dL_law_1148 rfl ?_ ?_
        · refine r_iinc (pc := 1363) (v3 + (6 : Int32)) [some (.ref v0), some (.ref v1), some (.ref v2), some (.int (v3 + (6 : Int32)))] dL_law_1363 rfl rfl (Nat.le_of_ble_eq_true rfl) rfl ?_
          refine r_goto (pc := 1366) 18 dL_law_1366 rfl ?_
          exact ih (v3 + (6 : Int32)) M231
        · refine r_iconst (pc := 1151) (0 : Int32) dL_law_1151 (by decide) ?_
          exact r_nret rfl rfl dL_law_1152
      rw [if_neg h30_33]
      by_cases h31_33 : (x2 &&& (63 : Int32)) = 31
      · rw [if_pos h31_33]
        refine r_tableIn (pc := 33) 1153 dL_law_33 (by rw [h31_33]; decide) (by rw [h31_33]; decide) (by rw [h31_33] <;> rfl) rfl ?_
        refine r_aload_n (pc := 1153) dL_law_1153 rfl ?_
        refine r_aload_n (pc := 1154) dL_law_1154 rfl ?_
        refine r_iload_n (pc := 1155) dL_law_1155 rfl ?_
        refine r_iconst (pc := 1156) (1 : Int32) dL_law_1156 (by decide) ?_
        refine r_iadd (pc := 1157) dL_law_1157 ?_
        refine r_iald (pc := 1158) dL_law_1158 fun x233 => ?_
        refine r_aload_n (pc := 1159) dL_law_1159 rfl ?_
        refine r_iload_n (pc := 1160) dL_law_1160 rfl ?_
        refine r_iconst (pc := 1161) (2 : Int32) dL_law_1161 (by decide) ?_
        refine r_iadd (pc := 1162) dL_law_1162 ?_
        refine r_iald (pc := 1163) dL_law_1163 fun x234 => ?_
        refine r_callV (pc := 1164) [(.int x233), (.int x234)] sC0 (lw_V q1354 q1355 q1356 q155 q1357) cyV_X0_splice (w_X0_splice l G 3 (Nat.le_refl _) v1 x233 x234 M) (Nat.le_trans (Nat.le_of_ble_eq_true rfl) hd) (Nat.le_of_ble_eq_true rfl) rfl rfl (Nat.le_of_ble_eq_true rfl) rfl dL_law_1164 (sKI fun x236 M235 => ?_)
        refine r_aload_n (pc := 1167) dL_law_1167 rfl ?_
        refine r_aload_n (pc := 1168) dL_law_1168 rfl ?_
        refine r_iload_n (pc := 1169) dL_law_1169 rfl ?_
        refine r_iconst (pc := 1170) (1 : Int32) dL_law_1170 (by decide) ?_
        refine r_iadd (pc := 1171) dL_law_1171 ?_
        refine r_iald (pc := 1172) dL_law_1172 fun x237 => ?_
        refine r_aload_n (pc := 1173) dL_law_1173 rfl ?_
        refine r_iload_n (pc := 1174) dL_law_1174 rfl ?_
        refine r_iconst (pc := 1175) (2 : Int32) dL_law_1175 (by decide) ?_
        refine r_iadd (pc := 1176) dL_law_1176 ?_
        refine r_iald (pc := 1177) dL_law_1177 fun x238 => ?_
        refine r_callV (pc := 1178) [(.int x237), (.int x238)] sC3 (lw_V q1902 q1903 q1904 q158 q1905) cyV_X3_splice (w_X3_splice l G 3 (Nat.le_refl _) v2 x237 x238 M235) (Nat.le_trans (Nat.le_of_ble_eq_true rfl) hd) (Nat.le_of_ble_eq_true rfl) rfl rfl (Nat.le_of_ble_eq_true rfl) rfl dL_law_1178 (sKI fun x240 M239 => ?_)
        refine r_icmp_eq (pc := 1181) 1363 dL_law_1181 rfl ?_ ?_
        · refine r_iinc (pc := 1363) (v3 + (6 : Int32)) [some (.ref v0), some (.ref v1), some (.ref v2), some (.int (v3 + (6 : Int32)))] dL_law_1363 rfl rfl (Nat.le_of_ble_eq_true rfl) rfl ?_
          refine r_goto (pc := 1366) 18 dL_law_1366 rfl ?_
          exact ih (v3 + (6 : Int32)) M239
        · refine r_iconst (pc := 1184) (0 : Int32) dL_law_1184 (by decide) ?_
          exact r_nret rfl rfl dL_law_1185
      rw [if_neg h31_33]
      by_cases h32_33 : (x2 &&& (63 : Int32)) = 32
      · rw [if_pos h32_33]
        refine r_tableIn (pc := 33) 1186 dL_law_33 (by rw [h32_33]; decide) (by rw [h32_33]; decide) (by rw [h32_33] <;> rfl) rfl ?_
        refine r_aload_n (pc := 1186) dL_law_1186 rfl ?_
        refine r_aload_n (pc := 1187) dL_law_1187 rfl ?_
        refine r_iload_n (pc := 1188) dL_law_1188 rfl ?_
        refine r_iconst (pc := 1189) (1 : Int32) dL_law_1189 (by decide) ?_
        refine r_iadd (pc := 1190) dL_law_1190 ?_
        refine r_iald (pc := 1191) dL_law_1191 fun x241 => ?_
        refine r_callV (pc := 1192) [(.int x241)] sC0 (lw_V q1292 q1293 q1294 q155 q1295) cyV_X0_gaps (w_X0_gaps l G 8 (Nat.le_refl _) v1 x241 M) (Nat.le_trans (Nat.le_of_ble_eq_true rfl) hd) (Nat.le_of_ble_eq_true rfl) rfl rfl (Nat.le_of_ble_eq_true rfl) rfl dL_law_1192 (sKI fun x243 M242 => ?_)
        refine r_aload_n (pc := 1195) dL_law_1195 rfl ?_
        refine r_aload_n (pc := 1196) dL_law_1196 rfl ?_
        refine r_iload_n (pc := 1197) dL_law_1197 rfl ?_
        refine r_iconst (pc := 1198) (1 : Int32) dL_law_1198 (by decide) ?_
        refine r_iadd (pc := 1199) dL_law_1199 ?_
        refine r_iald (pc := 1200) dL_law_1200 fun x244 => ?_
        refine r_callV (pc := 1201) [(.int x244)] sC3 (lw_V q1958 q1959 q1960 q158 q1961) cyV_X3_gaps (w_X3_gaps l G 5 (Nat.le_refl _) v2 x244 M242) (Nat.le_trans (Nat.le_of_ble_eq_true rfl) hd) (Nat.le_of_ble_eq_true rfl) rfl rfl (Nat.le_of_ble_eq_true rfl) rfl dL_law_1201 (sKI fun x246 M245 => ?_)
        refine r_icmp_eq (pc := 1204) 1363 dL_law_1204 rfl ?_ ?_
        · refine r_iinc (pc := 1363) (v3 + (6 : Int32)) [some (.ref v0), some (.ref v1), some (.ref v2), some (.int (v3 + (6 : Int32)))] dL_law_1363 rfl rfl (Nat.le_of_ble_eq_true rfl) rfl ?_
          refine r_goto (pc := 1366) 18 dL_law_1366 rfl ?_
          exact ih (v3 + (6 : Int32)) M245
        · refine r_iconst (pc := 1207) (0 : Int32) dL_law_1207 (by decide) ?_
          exact r_nret rfl rfl dL_law_1208
      rw [if_neg h32_33]
      by_cases h33_33 : (x2 &&& (63 : Int32)) = 33
      · rw [if_pos h33_33]
        refine r_tableIn (pc := 33) 1209 dL_law_33 (by rw [h33_33]; decide) (by rw [h33_33]; decide) (by rw [h33_33] <;> rfl) rfl ?_
        refine r_aload_n (pc := 1209) dL_law_1209 rfl ?_
        refine r_aload_n (pc := 1210) dL_law_1210 rfl ?_
        refine r_iload_n (pc := 1211) dL_law_1211 rfl ?_
        refine r_iconst (pc := 1212) (1 : Int32) dL_law_1212 (by decide) ?_
        refine r_iadd (pc := 1213) dL_law_1213 ?_
        refine r_iald (pc := 1214) dL_law_1214 fun x247 => ?_
        refine r_aload_n (pc := 1215) dL_law_1215 rfl ?_
        refine r_iload_n (pc := 1216) dL_law_1216 rfl ?_
        refine r_iconst (pc := 1217) (2 : Int32) dL_law_1217 (by decide) ?_
        refine r_iadd (pc := 1218) dL_law_1218 ?_
        refine r_iald (pc := 1219) dL_law_1219 fun x248 => ?_
        refine r_callV (pc := 1220) [(.int x247), (.int x248)] sC0 (lw_V q1362 q1363 q1364 q155 q1365) cyV_X0_both_2 (w_X0_both_2 l G 3 (Nat.le_refl _) v1 x247 x248 M) (Nat.le_trans (Nat.le_of_ble_eq_true rfl) hd) (Nat.le_of_ble_eq_true rfl) rfl rfl (Nat.le_of_ble_eq_true rfl) rfl dL_law_1220 (sKI fun x250 M249 => ?_)
        refine r_aload_n (pc := 1223) dL_law_1223 rfl ?_
        refine r_aload_n (pc := 1224) dL_law_1224 rfl ?_
        refine r_iload_n (pc := 1225) dL_law_1225 rfl ?_
        refine r_iconst (pc := 1226) (1 : Int32) dL_law_1226 (by decide) ?_
        refine r_iadd (pc := 1227) dL_law_1227 ?_
        refine r_iald (pc := 1228) dL_law_1228 fun x251 => ?_
        refine r_aload_n (pc := 1229) dL_law_1229 rfl ?_
        refine r_iload_n (pc := 1230) dL_law_1230 rfl ?_
        refine r_iconst (pc := 1231) (2 : Int32) dL_law_1231 (by decide) ?_
        refine r_iadd (pc := 1232) dL_law_1232 ?_
        refine r_iald (pc := 1233) dL_law_1233 fun x252 => ?_
        refine r_callV (pc := 1234) [(.int x251), (.int x252)] sC3 (lw_V q1910 q1911 q1912 q158 q1913) cyV_X3_both (w_X3_both l G 3 (Nat.le_refl _) v2 x251 x252 M249) (Nat.le_trans (Nat.le_of_ble_eq_true rfl) hd) (Nat.le_of_ble_eq_true rfl) rfl rfl (Nat.le_of_ble_eq_true rfl) rfl dL_law_1234 (sKI fun x254 M253 => ?_)
        refine r_icmp_eq (pc := 1237) 1363 dL_law_1237 rfl ?_ ?_
        · refine r_iinc (pc := 1363) (v3 + (6 : Int32)) [some (.ref v0), some (.ref v1), some (.ref v2), some (.int (v3 + (6 : Int32)))] dL_law_1363 rfl rfl (Nat.le_of_ble_eq_true rfl) rfl ?_
          refine r_goto (pc := 1366) 18 dL_law_1366 rfl ?_
          exact ih (v3 + (6 : Int32)) M253
        · refine r_iconst (pc := 1240) (0 : Int32) dL_law_1240 (by decide) ?_
          exact r_nret rfl rfl dL_law_1241
      rw [if_neg h33_33]
      by_cases h34_33 : (x2 &&& (63 : Int32)) = 34
      · rw [if_pos h34_33]
        refine r_tableIn (pc := 33) 1242 dL_law_33 (by rw [h34_33]; decide) (by rw [h34_33]; decide) (by rw [h34_33] <;> rfl) rfl ?_
        refine r_aload_n (pc := 1242) dL_law_1242 rfl ?_
        refine r_aload_n (pc := 1243) dL_law_1243 rfl ?_
        refine r_iload_n (pc := 1244) dL_law_1244 rfl ?_
        refine r_iconst (pc := 1245) (1 : Int32) dL_law_1245 (by decide) ?_
        refine r_iadd (pc := 1246) dL_law_1246 ?_
        refine r_iald (pc := 1247) dL_law_1247 fun x255 => ?_
        refine r_callV (pc := 1248) [(.int x255)] sC0 (lw_V q1370 q1371 q1372 q155 q1373) cyV_X0_pull (w_X0_pull l G 9 (Nat.le_refl _) v1 x255 M) (Nat.le_trans (Nat.le_of_ble_eq_true rfl) hd) (Nat.le_of_ble_eq_true rfl) rfl rfl (Nat.le_of_ble_eq_true rfl) rfl dL_law_1248 (sKI fun x257 M256 => ?_)
        refine r_aload_n (pc := 1251) dL_law_1251 rfl ?_
        refine r_aload_n (pc := 1252) dL_law_1252 rfl ?_
        refine r_iload_n (pc := 1253) dL_law_1253 rfl ?_
        refine r_iconst (pc := 1254) (1 : Int32) dL_law_1254 (by decide) ?_
        refine r_iadd (pc := 1255) dL_law_1255 ?_
        refine r_iald (pc := 1256) dL_law_1256 fun x258 => ?_
        refine r_callV (pc := 1257) [(.int x258)] sC3 (lw_V q1918 q1919 q1920 q158 q1921) cyV_X3_pull (w_X3_pull l G 2 (Nat.le_refl _) v2 x258 M256) (Nat.le_trans (Nat.le_of_ble_eq_true rfl) hd) (Nat.le_of_ble_eq_true rfl) rfl rfl (Nat.le_of_ble_eq_true rfl) rfl dL_law_1257 (sKI fun x260 M259 => ?_)
        refine r_icmp_eq (pc := 1260) 1363 dL_law_1260 rfl ?_ ?_
        · refine r_iinc (pc := 1363) (v3 + (6 : Int32)) [some (.ref v0), some (.ref v1), some (.ref v2), some (.int (v3 + (6 : Int32)))] dL_law_1363 rfl rfl (Nat.le_of_ble_eq_true rfl) rfl ?_
          refine r_goto (pc := 1366) 18 dL_law_1366 rfl ?_
          exact ih (v3 + (6 : Int32)) M259
        · refine r_iconst (pc := 1263) (0 : Int32) dL_law_1263 (by decide) ?_
          exact r_nret rfl rfl dL_law_1264
      rw [if_neg h34_33]
      by_cases h35_33 : (x2 &&& (63 : Int32)) = 35
      · rw [if_pos h35_33]
        refine r_tableIn (pc := 33) 1265 dL_law_33 (by rw [h35_33]; decide) (by rw [h35_33]; decide) (by rw [h35_33] <;> rfl) rfl ?_
        refine r_aload_n (pc := 1265) dL_law_1265 rfl ?_
        refine r_aload_n (pc := 1266) dL_law_1266 rfl ?_
        refine r_iload_n (pc := 1267) dL_law_1267 rfl ?_
        refine r_iconst (pc := 1268) (1 : Int32) dL_law_1268 (by decide) ?_
        refine r_iadd (pc := 1269) dL_law_1269 ?_
        refine r_iald (pc := 1270) dL_law_1270 fun x261 => ?_
        refine r_callV (pc := 1271) [(.int x261)] sC0 (lw_V q1377 q1378 q1379 q155 q1380) cyV_X0_game (w_X0_game l G 2 (Nat.le_refl _) v1 x261 M) (Nat.le_trans (Nat.le_of_ble_eq_true rfl) hd) (Nat.le_of_ble_eq_true rfl) rfl rfl (Nat.le_of_ble_eq_true rfl) rfl dL_law_1271 (sKI fun x263 M262 => ?_)
        refine r_aload_n (pc := 1274) dL_law_1274 rfl ?_
        refine r_aload_n (pc := 1275) dL_law_1275 rfl ?_
        refine r_iload_n (pc := 1276) dL_law_1276 rfl ?_
        refine r_iconst (pc := 1277) (1 : Int32) dL_law_1277 (by decide) ?_
        refine r_iadd (pc := 1278) dL_law_1278 ?_
        refine r_iald (pc := 1279) dL_law_1279 fun x264 => ?_
        refine r_callV (pc := 1280) [(.int x264)] sC3 (lw_V q2028 q2029 q2030 q158 q2031) cyV_X3_game (w_X3_game l G 2 (Nat.le_refl _) v2 x264 M262) (Nat.le_trans (Nat.le_of_ble_eq_true rfl) hd) (Nat.le_of_ble_eq_true rfl) rfl rfl (Nat.le_of_ble_eq_true rfl) rfl dL_law_1280 (sKI fun x266 M265 => ?_)
        refine r_icmp_eq (pc := 1283) 1363 dL_law_1283 rfl ?_ ?_
        · refine r_iinc (pc := 1363) (v3 + (6 : Int32)) [some (.ref v0), some (.ref v1), some (.ref v2), some (.int (v3 + (6 : Int32)))] dL_law_1363 rfl rfl (Nat.le_of_ble_eq_true rfl) rfl ?_
          refine r_goto (pc := 1366) 18 dL_law_1366 rfl ?_
          exact ih (v3 + (6 : Int32)) M265
        · refine r_iconst (pc := 1286) (0 : Int32) dL_law_1286 (by decide) ?_
          exact r_nret rfl rfl dL_law_1287
      rw [if_neg h35_33]
      by_cases h36_33 : (x2 &&& (63 : Int32)) = 36
      · rw [if_pos h36_33]
        refine r_tableIn (pc := 33) 1288 dL_law_33 (by rw [h36_33]; decide) (by rw [h36_33]; decide) (by rw [h36_33] <;> rfl) rfl ?_
        refine r_aload_n (pc := 1288) dL_law_1288 rfl ?_
        refine r_callV (pc := 1289) [] sC0 (lw_V q924 q925 q926 q155 q927) cyV_X0_undo (w_X0_undo l G 3 (Nat.le_refl _) v1 M) (Nat.le_trans (Nat.le_of_ble_eq_true rfl) hd) (Nat.le_of_ble_eq_true rfl) rfl rfl (Nat.le_of_ble_eq_true rfl) rfl dL_law_1289 (sKI fun x268 M267 => ?_)
        refine r_aload_n (pc := 1292) dL_law_1292 rfl ?_
        refine r_callV (pc := 1293) [] sC3 (lw_V q1699 q1700 q1701 q158 q1702) cyV_X3_undo (w_X3_undo l G 1 (Nat.le_refl _) v2 M267) (Nat.le_trans (Nat.le_of_ble_eq_true rfl) hd) (Nat.le_of_ble_eq_true rfl) rfl rfl (Nat.le_of_ble_eq_true rfl) rfl dL_law_1293 (sKI fun x270 M269 => ?_)
        refine r_icmp_eq (pc := 1296) 1363 dL_law_1296 rfl ?_ ?_
        · refine r_iinc (pc := 1363) (v3 + (6 : Int32)) [some (.ref v0), some (.ref v1), some (.ref v2), some (.int (v3 + (6 : Int32)))] dL_law_1363 rfl rfl (Nat.le_of_ble_eq_true rfl) rfl ?_
          refine r_goto (pc := 1366) 18 dL_law_1366 rfl ?_
          exact ih (v3 + (6 : Int32)) M269
        · refine r_iconst (pc := 1299) (0 : Int32) dL_law_1299 (by decide) ?_
          exact r_nret rfl rfl dL_law_1300
      rw [if_neg h36_33]
      by_cases h37_33 : (x2 &&& (63 : Int32)) = 37
      · rw [if_pos h37_33]
        refine r_tableIn (pc := 33) 1301 dL_law_33 (by rw [h37_33]; decide) (by rw [h37_33]; decide) (by rw [h37_33] <;> rfl) rfl ?_
        refine r_aload_n (pc := 1301) dL_law_1301 rfl ?_
        refine r_aload_n (pc := 1302) dL_law_1302 rfl ?_
        refine r_iload_n (pc := 1303) dL_law_1303 rfl ?_
        refine r_iconst (pc := 1304) (1 : Int32) dL_law_1304 (by decide) ?_
        refine r_iadd (pc := 1305) dL_law_1305 ?_
        refine r_iald (pc := 1306) dL_law_1306 fun x271 => ?_
        refine AW.tern (pc := 1307) (c := x271 = 0) (0 : Int32) (1 : Int32) 1315 [some (.ref v0), some (.ref v1), some (.ref v2), some (.int v3)] [(.ref v1)] (fun o1 o2 k1 k2 => ?_) ?_
        · refine r_if_eq (pc := 1307) 1314 dL_law_1307 rfl ?_ ?_
          · refine r_iconst (pc := 1314) (0 : Int32) dL_law_1314 (by decide) ?_
            exact k1
          · refine r_iconst (pc := 1310) (1 : Int32) dL_law_1310 (by decide) ?_
            refine r_goto (pc := 1311) 1315 dL_law_1311 rfl ?_
            exact k2
        refine r_callV (pc := 1315) [(.int (if x271 = 0 then (0 : Int32) else (1 : Int32)))] sC0 (lw_V q1381 q1382 q1383 q155 q1384) cyV_X0_image (w_X0_image l G 4 (Nat.le_refl _) v1 (if x271 = 0 then (0 : Int32) else (1 : Int32)) M) (Nat.le_trans (Nat.le_of_ble_eq_true rfl) hd) (Nat.le_of_ble_eq_true rfl) rfl rfl (Nat.le_of_ble_eq_true rfl) rfl dL_law_1315 (sKI fun x273 M272 => ?_)
        refine r_aload_n (pc := 1318) dL_law_1318 rfl ?_
        refine r_aload_n (pc := 1319) dL_law_1319 rfl ?_
        refine r_iload_n (pc := 1320) dL_law_1320 rfl ?_
        refine r_iconst (pc := 1321) (1 : Int32) dL_law_1321 (by decide) ?_
        refine r_iadd (pc := 1322) dL_law_1322 ?_
        refine r_iald (pc := 1323) dL_law_1323 fun x274 => ?_
        refine AW.tern (pc := 1324) (c := x274 = 0) (0 : Int32) (1 : Int32) 1332 [some (.ref v0), some (.ref v1), some (.ref v2), some (.int v3)] [(.ref v2), (.int x273)] (fun o1 o2 k1 k2 => ?_) ?_
        · refine r_if_eq (pc := 1324) 1331 dL_law_1324 rfl ?_ ?_
          · refine r_iconst (pc := 1331) (0 : Int32) dL_law_1331 (by decide) ?_
            exact k1
          · refine r_iconst (pc := 1327) (1 : Int32) dL_law_1327 (by decide) ?_
            refine r_goto (pc := 1328) 1332 dL_law_1328 rfl ?_
            exact k2
        refine r_callV (pc := 1332) [(.int (if x274 = 0 then (0 : Int32) else (1 : Int32)))] sC3 (lw_V q2032 q2033 q2034 q158 q2035) cyV_X3_image (w_X3_image l G 2 (Nat.le_refl _) v2 (if x274 = 0 then (0 : Int32) else (1 : Int32)) M272) (Nat.le_trans (Nat.le_of_ble_eq_true rfl) hd) (Nat.le_of_ble_eq_true rfl) rfl rfl (Nat.le_of_ble_eq_true rfl) rfl dL_law_1332 (sKI fun x276 M275 => ?_)
        refine r_icmp_eq (pc := 1335) 1363 dL_law_1335 rfl ?_ ?_
        · refine r_iinc (pc := 1363) (v3 + (6 : Int32)) [some (.ref v0), some (.ref v1), some (.ref v2), some (.int (v3 + (6 : Int32)))] dL_law_1363 rfl rfl (Nat.le_of_ble_eq_true rfl) rfl ?_
          refine r_goto (pc := 1366) 18 dL_law_1366 rfl ?_
          exact ih (v3 + (6 : Int32)) M275
        · refine r_iconst (pc := 1338) (0 : Int32) dL_law_1338 (by decide) ?_
          exact r_nret rfl rfl dL_law_1339
      rw [if_neg h37_33]
      by_cases h38_33 : (x2 &&& (63 : Int32)) = 38
      · rw [if_pos h38_33]
        refine r_tableIn (pc := 33) 1340 dL_law_33 (by rw [h38_33]; decide) (by rw [h38_33]; decide) (by rw [h38_33] <;> rfl) rfl ?_
        refine r_aload_n (pc := 1340) dL_law_1340 rfl ?_
        refine r_aload_n (pc := 1341) dL_law_1341 rfl ?_
        refine r_iload_n (pc := 1342) dL_law_1342 rfl ?_
        refine r_iconst (pc := 1343) (1 : Int32) dL_law_1343 (by decide) ?_
        refine r_iadd (pc := 1344) dL_law_1344 ?_
        refine r_iald (pc := 1345) dL_law_1345 fun x277 => ?_
        refine r_callV (pc := 1346) [(.int x277)] sC0 (lw_V q1394 q1395 q1396 q155 q1397) cyV_X0_look (w_X0_look l G 1 (Nat.le_refl _) v1 x277 M) (Nat.le_trans (Nat.le_of_ble_eq_true rfl) hd) (Nat.le_of_ble_eq_true rfl) rfl rfl (Nat.le_of_ble_eq_true rfl) rfl dL_law_1346 (sKI fun x279 M278 => ?_)
        refine r_aload_n (pc := 1349) dL_law_1349 rfl ?_
        refine r_aload_n (pc := 1350) dL_law_1350 rfl ?_
        refine r_iload_n (pc := 1351) dL_law_1351 rfl ?_
        refine r_iconst (pc := 1352) (1 : Int32) dL_law_1352 (by decide) ?_
        refine r_iadd (pc := 1353) dL_law_1353 ?_
        refine r_iald (pc := 1354) dL_law_1354 fun x280 => ?_
        refine r_callV (pc := 1355) [(.int x280)] sC3 (lw_V q2036 q2037 q2038 q158 q2039) cyV_X3_look (w_X3_look l G 1 (Nat.le_refl _) v2 x280 M278) (Nat.le_trans (Nat.le_of_ble_eq_true rfl) hd) (Nat.le_of_ble_eq_true rfl) rfl rfl (Nat.le_of_ble_eq_true rfl) rfl dL_law_1355 (sKI fun x282 M281 => ?_)
        refine r_icmp_eq (pc := 1358) 1363 dL_law_1358 rfl ?_ ?_
        · refine r_iinc (pc := 1363) (v3 + (6 : Int32)) [some (.ref v0), some (.ref v1), some (.ref v2), some (.int (v3 + (6 : Int32)))] dL_law_1363 rfl rfl (Nat.le_of_ble_eq_true rfl) rfl ?_
          refine r_goto (pc := 1366) 18 dL_law_1366 rfl ?_
          exact ih (v3 + (6 : Int32)) M281
        · refine r_iconst (pc := 1361) (0 : Int32) dL_law_1361 (by decide) ?_
          exact r_nret rfl rfl dL_law_1362
      rw [if_neg h38_33]
      refine r_tableOut (pc := 33) 1363 dL_law_33 (by have g0 := lv_neT h0_33 (a := 0) (by decide); have g1 := lv_neT h1_33 (a := 1) (by decide); have g2 := lv_neT h2_33 (a := 2) (by decide); have g3 := lv_neT h3_33 (a := 3) (by decide); have g4 := lv_neT h4_33 (a := 4) (by decide); have g5 := lv_neT h5_33 (a := 5) (by decide); have g6 := lv_neT h6_33 (a := 6) (by decide); have g7 := lv_neT h7_33 (a := 7) (by decide); have g8 := lv_neT h8_33 (a := 8) (by decide); have g9 := lv_neT h9_33 (a := 9) (by decide); have g10 := lv_neT h10_33 (a := 10) (by decide); have g11 := lv_neT h11_33 (a := 11) (by decide); have g12 := lv_neT h12_33 (a := 12) (by decide); have g13 := lv_neT h13_33 (a := 13) (by decide); have g14 := lv_neT h14_33 (a := 14) (by decide); have g15 := lv_neT h15_33 (a := 15) (by decide); have g16 := lv_neT h16_33 (a := 16) (by decide); have g17 := lv_neT h17_33 (a := 17) (by decide); have g18 := lv_neT h18_33 (a := 18) (by decide); have g19 := lv_neT h19_33 (a := 19) (by decide); have g20 := lv_neT h20_33 (a := 20) (by decide); have g21 := lv_neT h21_33 (a := 21) (by decide); have g22 := lv_neT h22_33 (a := 22) (by decide); have g23 := lv_neT h23_33 (a := 23) (by decide); have g24 := lv_neT h24_33 (a := 24) (by decide); have g25 := lv_neT h25_33 (a := 25) (by decide); have g26 := lv_neT h26_33 (a := 26) (by decide); have g27 := lv_neT h27_33 (a := 27) (by decide); have g28 := lv_neT h28_33 (a := 28) (by decide); have g29 := lv_neT h29_33 (a := 29) (by decide); have g30 := lv_neT h30_33 (a := 30) (by decide); have g31 := lv_neT h31_33 (a := 31) (by decide); have g32 := lv_neT h32_33 (a := 32) (by decide); have g33 := lv_neT h33_33 (a := 33) (by decide); have g34 := lv_neT h34_33 (a := 34) (by decide); have g35 := lv_neT h35_33 (a := 35) (by decide); have g36 := lv_neT h36_33 (a := 36) (by decide); have g37 := lv_neT h37_33 (a := 37) (by decide); have g38 := lv_neT h38_33 (a := 38) (by decide); omega) rfl ?_
      refine r_iinc (pc := 1363) (v3 + (6 : Int32)) [some (.ref v0), some (.ref v1), some (.ref v2), some (.int (v3 + (6 : Int32)))] dL_law_1363 rfl rfl (Nat.le_of_ble_eq_true rfl) rfl ?_
      refine r_goto (pc := 1366) 18 dL_law_1366 rfl ?_
      exact ih (v3 + (6 : Int32)) M
theorem w_L_law (l : Launch) (G : sG) (d : Nat) (hd : 608 ≤ d) (v0 : Nat) (M : sMem) : AW l G RL yL_law cL_law 4 (some .boolean) [] d 0 [some (.ref v0), none, none, none] [] M (f_L_law G.2.2.2 v0 M) := by
  unfold f_L_law
  refine r_new (pc := 0) sC0 q182 q183 q155 (nz_0) dL_law_0 fun r1 M2 => ?_
  refine r_dup (pc := 3) dL_law_3 rfl ?_
  refine r_callI (pc := 4) [] (lw_meth q186) q155 q184 q185 rfl cyS_X0_init (w_X0_init l G 2 (Nat.le_refl _) r1 M2) (Nat.le_trans (Nat.le_of_ble_eq_true rfl) hd) (Nat.le_of_ble_eq_true rfl) rfl rfl (Nat.le_of_ble_eq_true rfl) rfl dL_law_4 (sKV fun M3 => ?_)
  refine r_astore_n (pc := 7) [some (.ref v0), some (.ref r1), none, none] dL_law_7 (Nat.le_of_ble_eq_true rfl) rfl ?_
  refine r_new (pc := 8) sC3 q1398 q1399 q158 (nz_3) dL_law_8 fun r5 M6 => ?_
  refine r_dup (pc := 11) dL_law_11 rfl ?_
  refine r_callI (pc := 12) [] (lw_meth q1402) q158 q1400 q1401 rfl cyS_X3_init (w_X3_init l G 1 (Nat.le_refl _) r5 M6) (Nat.le_trans (Nat.le_of_ble_eq_true rfl) hd) (Nat.le_of_ble_eq_true rfl) rfl rfl (Nat.le_of_ble_eq_true rfl) rfl dL_law_12 (sKV fun M7 => ?_)
  refine r_astore_n (pc := 15) [some (.ref v0), some (.ref r1), some (.ref r5), none] dL_law_15 (Nat.le_of_ble_eq_true rfl) rfl ?_
  refine r_iconst (pc := 16) (0 : Int32) dL_law_16 (by decide) ?_
  refine r_istore_n (pc := 17) [some (.ref v0), some (.ref r1), some (.ref r5), some (.int (0 : Int32))] dL_law_17 (Nat.le_of_ble_eq_true rfl) rfl ?_
  exact w_L_law_L18 l G d hd v0 r1 r5 sFuel (0 : Int32) M7
